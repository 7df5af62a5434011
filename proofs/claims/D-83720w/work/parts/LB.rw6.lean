/-! rows: loops that are heavy, the first claim -/
section
variable {kp : Nat → Bool} {fl : Bool} {sy : List Sym} {pb : Nat → Nat} {pa : List (List Nat)}
theorem zcC {w : Tm → Nat} {o oE lv0 : Nat} (P : prc kp sy w o oE) (hpa : ∀ p, (pa.getD p []).length ≤ 6) : ∀ (A : Tm), icQ A = true → ∀ vis, rdQ sy A 0 vis → ∀ lv, lv0 ≤ lv → wtS w (lvQ kp pa A 0) + 40 * (dsQ A 0).length ≤ 20 * cQ sy A 0 lv + ((oE - 20) * 6 - 20 * (2 * lv0 + 3)) := by
  intro A
  induction A using icQ.induct with
  | case1 u s c p ih =>
    intro hi vis h lv hlv
    have i1 := ih hi _ h.2 lv hlv
    have c2 := cN_2 sy s c
    show wtS w (lvQ kp pa p 0) + 40 * (List.range' s c ++ dsQ p 0).length ≤ 20 * (2 * lv + 4 + (if 0 < szO sy s then 3 else 0) + cN sy s c + cQ sy p 0 lv) + _
    rw [List.length_append, List.length_range']
    omega
  | case2 u p as =>
    intro hi vis h lv hlv
    have e1 := prA P (pa.getD p []) as h.2
    have e2 : (oE - 20) * (pa.getD p []).length ≤ (oE - 20) * 6 := Nat.mul_le_mul_left _ (hpa p)
    show wtS w (lvA kp (pa.getD p []) as) + 40 * 0 ≤ 20 * (2 * lv + 3 + cA sy as) + _
    omega
  | case3 A h1 h2 =>
    intro hi
    unfold icQ at hi
    split at hi
    · exact (h1 _ _ _ _ rfl).elim
    · exact (h2 _ _ _ rfl).elim
    · cases hi
theorem hvN {X s wA wB wC wK wD kk Y g p p2 d : Nat} {A : Tm} {vis AL : List Nat} {r : Nv} {Z : List (List Nv)} (R : rdQ sy A 0 vis) (z : zn X A 0) (hs : srO sy s = 11) (I : ivZ Z p d) (I2 : ∀ j, j ≠ s → fkS (vQ j) Z + 1 ≤ p2) (b1 : 3 * p ≤ wC) (b2 : 3 * p2 ≤ wK) (b3 : 3 * (d + 1) ≤ wD) (b4 : 3 * (d + 1) ≤ wK) (hAL : ∀ a, fnv sy vis a → arrS (srO sy a) = true → a ∈ AL)
    (C : wtS (wHv sy s wA wB wC wK wD) (lvQ kp pa A 0) + g * (dsQ A 0).length + kk ≤ Y) :
    ∃ a b d1 d2 N D, d1 ≤ a ∧ d2 ≤ b ∧ d1 ≤ 26 + D ∧ d1 + d2 ≤ AL.length + D ∧ 3 * wP kp fl sy pb pa A 0 r Z ≤ 3 * (a + b) + 3 * ((d1 + d2) * fkS (vQ s) Z) + N ∧ wA * a + wB * b + N + g * D + kk ≤ Y := by
  have sm := rd_sym (kp := kp) (pa := pa) A 0 vis R z
  have pS : ∀ a ∈ plL s (lvQ kp pa A 0), arrS (srO sy a) = true ∧ (fnv sy vis a ∨ a ∈ dsQ A 0) := fun a ha => sm _ (pl_of _ a ha) a _ rfl
  have W := zoW (kp := kp) (fl := fl) (pb := pb) (pa := pa) (r := r) (Z := Z) (w := fun t => wF (fun r => [(kyT sy r t, 0)]) r Z) z hs (fun t _ => Nat.le_refl _)
  have N3 : 3 * wtS (fun t => wF (fun r => [(kyT sy r t, 0)]) r Z) (npL s (lvQ kp pa A 0)) ≤ wtS (wHv sy s wA wB wC wK wD) (npL s (lvQ kp pa A 0)) := by
    rw [wtS_mul]
    exact wtS_le (fun t ht => wHv_row I I2 b1 b2 b3 b4 (np_of _ t ht).2)
  have P := pl_wt (sy := sy) (w := wHv sy s wA wB wC wK wD) (s := s) (wA := wA) (wB := wB) (fun a => Nat.le_of_eq (by show _ = (if s = s then (if ncs sy a = 1 then wA else wB) else _); rw [if_pos rfl])) (lvQ kp pa A 0)
  have q1 := n1_le sy (plL s (lvQ kp pa A 0))
  have q2 := n1_le sy (ddN (plL s (lvQ kp pa A 0)))
  obtain ⟨q3, q4⟩ := n1_ddN sy (plL s (lvQ kp pa A 0))
  have q5 := n1_26 (sy := sy) (vis := vis) (L := plL s (lvQ kp pa A 0)) (ds := dsQ A 0) (fun a ha => (pS a ha).2)
  have q6 := ddN_le (L := plL s (lvQ kp pa A 0)) (AL := AL) (ds := dsQ A 0) (fun a ha => (pS a ha).2.imp_left (fun h => hAL a h (pS a ha).1))
  refine ⟨n1 sy (plL s (lvQ kp pa A 0)), (plL s (lvQ kp pa A 0)).length - n1 sy (plL s (lvQ kp pa A 0)), n1 sy (ddN (plL s (lvQ kp pa A 0))), (ddN (plL s (lvQ kp pa A 0))).length - n1 sy (ddN (plL s (lvQ kp pa A 0))), wtS (wHv sy s wA wB wC wK wD) (npL s (lvQ kp pa A 0)), (dsQ A 0).length, q3, q4, q5, by omega, ?_, by omega⟩
  rw [show n1 sy (ddN (plL s (lvQ kp pa A 0))) + ((ddN (plL s (lvQ kp pa A 0))).length - n1 sy (ddN (plL s (lvQ kp pa A 0)))) = (ddN (plL s (lvQ kp pa A 0))).length by omega]
  omega
/-- six useful loops, the inner one of eight -/
theorem hv68 {s p2 lv : Nat} {A : Tm} {vis : List Nat} {r : Nv} {Z : List (List Nv)} (hk : ∀ s, srO sy s = 11 → kp s = false) (hpa : ∀ p, (pa.getD p []).length ≤ 6) (R : rdQ sy A 0 vis) (z : zn 9 A 0) (hs : srO sy s = 11) (I : ivZ Z 48 6) (I2 : ∀ j, j ≠ s → fkS (vQ j) Z + 1 ≤ p2) (h2 : p2 ≤ 40) (hlv : 6 ≤ lv) : 3 * wP kp fl sy pb pa A 0 r Z ≤ 20 * cQ sy A 0 lv + 400 := by
  have hV : fkS (vQ s) Z ≤ 47 := by have := I.1 s; omega
  cases hc : icQ A with
  | false =>
    have P : prc kp sy (wHv sy s 124 144 164 124 24) 44 68 := prc_wHv hs hk (by omega) (by omega) (by omega) (by omega) (by omega) (by omega) (by omega) (by omega) (by omega)
    have C := zc (pa := pa) (K := 120) (X := 9) (lv0 := 6) P hpa (by omega) (by omega) (by omega) (by omega) (by omega) (by omega) A 0 vis R z lv hlv
    rw [hc] at C
    obtain ⟨a, b, d1, d2, N, D, k1, k2, k3, -, k5, k6⟩ := hvN (kp := kp) (fl := fl) (pb := pb) (pa := pa) (r := r) (AL := dsQ A 0 ++ vis) (kk := 120) (g := 40) R z hs I I2 (by omega) (by omega) (by omega) (by omega) (fun a ha _ => List.mem_append.mpr (Or.inr (fnd_in ha).1)) C
    have m1 : (d1 + d2) * fkS (vQ s) Z ≤ (d1 + d2) * 47 := Nat.mul_le_mul_left _ hV
    omega
  | true =>
    have P : prc kp sy (wHv sy s 132 152 172 132 24) 52 84 := prc_wHv hs hk (by omega) (by omega) (by omega) (by omega) (by omega) (by omega) (by omega) (by omega) (by omega)
    have C := zcC (pa := pa) (lv0 := 6) P hpa A hc vis R lv hlv
    obtain ⟨a, b, d1, d2, N, D, k1, k2, k3, -, k5, k6⟩ := hvN (kp := kp) (fl := fl) (pb := pb) (pa := pa) (r := r) (AL := dsQ A 0 ++ vis) (kk := 0) (g := 40) R z hs I I2 (by omega) (by omega) (by omega) (by omega) (fun a ha _ => List.mem_append.mpr (Or.inr (fnd_in ha).1)) C
    have m1 : (d1 + d2) * fkS (vQ s) Z ≤ (d1 + d2) * 47 := Nat.mul_le_mul_left _ hV
    omega
/-- no calls with less than seven words -/
theorem ic_no {X : Nat} (hX : X < 7) : ∀ (A : Tm), zn X A 0 → icQ A = false := by
  intro A
  induction A using icQ.induct with
  | case1 u s c p ih => exact fun z => ih z
  | case2 u p as => intro z; have z' : 7 ≤ X := z; omega
  | case3 A h1 h2 =>
    intro _
    unfold icQ
    split
    · exact (h1 _ _ _ _ rfl).elim
    · exact (h2 _ _ _ rfl).elim
    · rfl
/-- seven useful loops, the inner one of seven, or of eight with few arrays in sight -/
theorem hv77 {s p p2 lv : Nat} {A : Tm} {vis AL : List Nat} {r : Nv} {Z : List (List Nv)} (hk : ∀ s, srO sy s = 11 → kp s = false) (hpa : ∀ p, (pa.getD p []).length ≤ 6) (R : rdQ sy A 0 vis) (z : zn 2 A 0) (hs : srO sy s = 11) (I : ivZ Z p 7) (I2 : ∀ j, j ≠ s → fkS (vQ j) Z + 1 ≤ p2) (h2 : p2 ≤ 40) (hlv : 7 ≤ lv) (hAL : ∀ a, fnv sy vis a → arrS (srO sy a) = true → a ∈ AL) (hp : p ≤ 49 ∨ (p ≤ 56 ∧ AL.length ≤ 19)) : 3 * wP kp fl sy pb pa A 0 r Z ≤ 20 * cQ sy A 0 lv + 440 := by
  have hV : fkS (vQ s) Z + 1 ≤ p := I.1 s
  have hc := ic_no (by decide : 2 < 7) A z
  have P : prc kp sy (wHv sy s 136 156 176 136 24) 56 92 := prc_wHv hs hk (by omega) (by omega) (by omega) (by omega) (by omega) (by omega) (by omega) (by omega) (by omega)
  have C := zc (pa := pa) (K := 172) (X := 2) (lv0 := 7) P hpa (by omega) (by omega) (by omega) (by omega) (by omega) (by omega) A 0 vis R z lv hlv
  rw [hc] at C
  obtain ⟨a, b, d1, d2, N, D, k1, k2, k3, k4, k5, k6⟩ := hvN (kp := kp) (fl := fl) (pb := pb) (pa := pa) (r := r) (AL := AL) (kk := 172) (g := 40) R z hs I I2 (by omega) (by omega) (by omega) (by omega) hAL C
  rcases hp with hp | ⟨hp, hl⟩
  · have m1 : (d1 + d2) * fkS (vQ s) Z ≤ (d1 + d2) * 48 := Nat.mul_le_mul_left _ (by omega)
    omega
  · have m1 : (d1 + d2) * fkS (vQ s) Z ≤ (d1 + d2) * 55 := Nat.mul_le_mul_left _ (by omega)
    omega
end
