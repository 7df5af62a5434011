/-! the component compiles: one processor -/
section
variable {sy : List Sym} {pz : List (Nat × Nat)} {pa : List (List Nat)} {bs : List Tm} {rt : List (Nat × Tm)} {nl : Nat} {sg : Nat → Nat × Nat}
/-- the tree, measured, with its roots -/
def cpJ (sy : List Sym) (pz : List (Nat × Nat)) (pa : List (List Nat)) (bs : List Tm) (rt : List (Nat × Tm)) (nl : Nat) (sg : Nat → Nat × Nat) (h : mj_H) : Prop := cTr sy pz pa bs nl sg h ∧ ∀ k, k < 6 → match rt.find? (fun x => x.1 == k) with | none => h.1 46 0 k = -1 | some x => ∃ j lo hi, h.1 46 0 k = nI j ∧ rQ lo hi h x.2 0 (nI j) ∧ hi ≤ 3100 ∧ cM sy pz h x.2 0 (nI j)
/-- what coding may change -/
def gXc (h h' : mj_H) : Prop := (∀ g i j, ¬ (g = 2 ∨ g = 8 ∨ g = 10 ∨ g = 13 ∨ g = 35 ∨ g = 36 ∨ g = 43 ∨ (49 ≤ g ∧ g ≤ 66) ∨ g = 69) → h'.1 g i j = h.1 g i j) ∧ h'.2 = h.2
theorem gXc.rf (h : mj_H) : gXc h h := ⟨fun _ _ _ _ => rfl, rfl⟩
theorem gXc.tr {h h1 h2 : mj_H} (a : gXc h h1) (b : gXc h1 h2) : gXc h h2 := ⟨fun g i j c => (b.1 g i j c).trans (a.1 g i j c), b.2.trans a.2⟩
theorem cpJ.mv {h h' : mj_H} (a : cpJ sy pz pa bs rt nl sg h) (f : gXc h h') : cpJ sy pz pa bs rt nl sg h' := by
  obtain ⟨⟨t1, t2, t3, t4, t5, t6⟩, a2⟩ := a
  have fK : ∀ lo hi, gK lo hi h h' := fun lo hi => ⟨fun g i j c => f.1 g i j (by omega), trivial, fun g i j _ => by rw [f.2]⟩
  have fD : ∀ lo hi, gD lo hi h h' := fun lo hi g i j c => f.1 g i j (by omega)
  refine ⟨⟨?_, (f.1 4 0 17 (by omega)).trans t2, t3, t4, fun k B hB => ?_, fun k hk => ?_⟩, fun k hk => ?_⟩
  · refine t1.eq (f.1 4 0 14 (by omega)) ?_ (by rw [f.2]) (by rw [f.2])
    funext i j
    exact f.1 34 i j (by omega)
  · obtain ⟨⟨x, lo, hi, b1, b2, b3, b4⟩, b5⟩ := t5 k B hB
    exact ⟨⟨x, lo, hi, (f.1 38 0 k (by omega)).trans b1, rQ.mvK (Nat.le_refl _) (Nat.le_refl _) (fK lo hi) _ _ _ b2, b3, cM.mv b3 (fD lo hi) _ _ _ b2 b4⟩, b5⟩
  · obtain ⟨b1, b2, b3, b4⟩ := t6 k hk
    exact ⟨b1, (f.1 39 0 k (by omega)).trans b2, (f.1 41 0 k (by omega)).trans b3, fun i q hq => ⟨(f.1 40 0 _ (by omega)).trans (b4 i q hq).1, (b4 i q hq).2⟩⟩
  · have b := a2 k hk
    split
    · rename_i e
      rw [e] at b
      exact (f.1 46 0 k (by omega)).trans b
    · rename_i x e
      rw [e] at b
      obtain ⟨j, lo, hi, b1, b2, b3, b4⟩ := b
      exact ⟨j, lo, hi, (f.1 46 0 k (by omega)).trans b1, rQ.mvK (Nat.le_refl _) (Nat.le_refl _) (fK lo hi) _ _ _ b2, b3, cM.mv b3 (fD lo hi) _ _ _ b2 b4⟩
/-- what typing processor k may change -/
def gXk (k : Nat) (h h' : mj_H) : Prop := (∀ g i j, ¬ (g = 10 ∨ g = 35 ∨ g = 36 ∨ (58 ≤ g ∧ g ≤ 66) ∨ (g = 69 ∧ i = k) ∨ (g = 13 ∧ i = k ∧ 3 ≤ j ∧ j ≤ 6)) → h'.1 g i j = h.1 g i j) ∧ h'.2 = h.2
theorem gXk.c {k : Nat} {h h' : mj_H} (a : gXk k h h') : gXc h h' := ⟨fun g i j c => a.1 g i j (by omega), a.2⟩
/-- method 13: the code of a processor -/
theorem c_type {k D : Nat} {x : Nat × Tm} {sr : Nat × Nat} {h : mj_H} (J : cpJ sy pz pa bs rt nl sg h) (hk : k < 6) (hx : rt.find? (fun x => x.1 == k) = some x) (hD : 560 ≤ D) (rr : rut sy pa nl x.2 sr) (hsr : sr.2 ≤ sy.length) (hz : (mz sy pz x.2 0).2 < 1000000) (htl : tL x.2 0 ≤ 5900) :
    mP (mj_R mg (D + 2) mq_13 (0, [(0, vR 2 0), (1, vI (nI k))], [], h)) (fun v h' => gXk k h h' ∧ ((okLn sy pz pa bs x.2 ∧ v = some (vI 1) ∧ h'.1 13 k 3 = nI (plS (lsO (kX sy pz pa bs x.2)) (kAl sy pz pa bs x.2).length) ∧ h'.1 13 k 5 = nI (1 + (mz sy pz x.2 0).1 + (mz sy pz x.2 0).2 + 3) ∧ h'.1 13 k 4 = nI (plS (lsO (kX sy pz pa bs x.2)) (kSt sy pz pa bs bs.length)) ∧ h'.1 13 k 6 = nI (16 + (mz sy pz x.2 0).2 + 3) ∧ ∀ y, cdF (kX sy pz pa bs x.2) (lsO (kX sy pz pa bs x.2)) y < 256 → h'.1 69 k y &&& 255 = nI (cdF (kX sy pz pa bs x.2) (lsO (kX sy pz pa bs x.2)) y)) ∨ (¬ okLn sy pz pa bs x.2 ∧ v = some (vI 0)))) := by
  have b := J.2 k hk
  rw [hx] at b
  obtain ⟨j, lo, hi, b1, b2, b3, b4⟩ := b
  obtain ⟨j', ej, j1, j2⟩ := rQ_root b2
  have hj31 : j < 2 ^ 31 ∨ True := Or.inr trivial
  have ik : mj_in (nI k) 6 := (in_nI (by omega)).mpr hk
  have ck : (nI k).toNatClampNeg = k := nI_clamp (by omega)
  have cj : (nI j).toNatClampNeg = j' := by rw [ej]; exact nI_clamp (by omega)
  have ij : mj_in (nI j) 3100 := by rw [ej]; exact (in_nI (by omega)).mpr (by omega)
  obtain ⟨d1, v0, d2, d3, d4⟩ := cM_0 b2 b4
  rw [cj] at d1 d2
  have ev : v0 = (mz sy pz x.2 0).2 := d3.1 hz
  rw [ev] at d2
  rw [q_13_0, if_pos ik, if_pos ik, ck, b1]
  refine mP_xi (mP_mono (k_type (Dp := D) (k2 := k) J.1 hD rr hsr b2 b3 b4 hz htl) ?_)
  rintro v h1 ⟨g1, hc⟩
  have rest : ∀ r1 : Int32, mP (mj_xi (mj_R mg (D + 1) mq_149 (0, [(0, vR 10 0), (1, vI (nI j))], [], mj_sI (mj_sI h1 13 k 3 r1) 13 k 4 (h1.1 10 0 15))) (fun r2 h2 => (if mj_in (nI j) 3100 then (if r1 = (-1) then mj_R mg (D + 2) mq_13 (89, [(4, vI r1), (3, vI (nI j)), (2, vR 13 k), (0, vR 2 0), (1, vI (nI k))], [vI 0], mj_sI (mj_sI h2 13 k 5 r2) 13 k 6 ((16 + (h2.1 30 0 ((nI j).toNatClampNeg))) + 3)) else mj_R mg (D + 2) mq_13 (89, [(4, vI r1), (3, vI (nI j)), (2, vR 13 k), (0, vR 2 0), (1, vI (nI k))], [vI 1], mj_sI (mj_sI h2 13 k 5 r2) 13 k 6 ((16 + (h2.1 30 0 ((nI j).toNatClampNeg))) + 3))) else none))) (fun v' h' => v' = some (vI (if r1 = -1 then 0 else 1)) ∧ h' = mj_sI (mj_sI (mj_sI (mj_sI h1 13 k 3 r1) 13 k 4 (h1.1 10 0 15)) 13 k 5 (nI (1 + (mz sy pz x.2 0).1 + (mz sy pz x.2 0).2 + 3))) 13 k 6 (nI (16 + (mz sy pz x.2 0).2 + 3))) := by
    intro r1
    have e29 : (mj_sI (mj_sI h1 13 k 3 r1) 13 k 4 (h1.1 10 0 15)).1 29 0 j' = nI (mz sy pz x.2 0).1 := by
      rw [mI_1, if_neg (by omega), mI_1, if_neg (by omega), g1.1 29 0 j' (by omega)]; exact d1
    have e30 : (mj_sI (mj_sI h1 13 k 3 r1) 13 k 4 (h1.1 10 0 15)).1 30 0 j' = nI (mz sy pz x.2 0).2 := by
      rw [mI_1, if_neg (by omega), mI_1, if_neg (by omega), g1.1 30 0 j' (by omega)]; exact d2
    rw [q_149_0, if_pos ij, if_pos ij, mj_xi_ret, if_pos ij, cj, e29, e30]
    have n1 : ((1 : Int32) + nI (mz sy pz x.2 0).1) + nI (mz sy pz x.2 0).2 + 3 = nI (1 + (mz sy pz x.2 0).1 + (mz sy pz x.2 0).2 + 3) := by rw [k_1, k_3, nI_add, nI_add, nI_add]
    have n2 : ((16 : Int32) + nI (mz sy pz x.2 0).2) + 3 = nI (16 + (mz sy pz x.2 0).2 + 3) := by rw [k_16, k_3, nI_add, nI_add]
    rw [n1, n2]
    by_cases hr : r1 = -1
    · rw [if_pos hr, if_pos hr, q_13_89, if_pos (Or.inl rfl)]
      exact mP_ret ⟨rfl, rfl⟩
    · rw [if_neg hr, if_neg hr, q_13_89, if_pos (Or.inr rfl)]
      exact mP_ret ⟨rfl, rfl⟩
  have fr : ∀ (a b c d : Int32), gXk k h (mj_sI (mj_sI (mj_sI (mj_sI h1 13 k 3 a) 13 k 4 b) 13 k 5 c) 13 k 6 d) := by
    intro a b c d
    refine ⟨fun g i j hc => ?_, g1.2⟩
    rw [mI_1, if_neg (by omega), mI_1, if_neg (by omega), mI_1, if_neg (by omega), mI_1, if_neg (by omega)]
    exact g1.1 g i j (by omega)
  rcases hc with ⟨c1, c2⟩ | ⟨c1, L, c2, ⟨c3, c4⟩ | ⟨c3, c4, c5, c6⟩⟩
  · refine ⟨-1, c2, mP_mono (rest (-1)) ?_⟩
    rintro v' h' ⟨rfl, rfl⟩
    refine ⟨fr _ _ _ _, Or.inr ⟨fun z => ?_, rfl⟩⟩
    have := z.1.1
    omega
  · refine ⟨-1, c4, mP_mono (rest (-1)) ?_⟩
    rintro v' h' ⟨rfl, rfl⟩
    refine ⟨fr _ _ _ _, Or.inr ⟨fun z => ?_, rfl⟩⟩
    have := z.2
    rw [lsO_eq c2] at this
    omega
  · refine ⟨_, c4, mP_mono (rest _) ?_⟩
    rintro v' h' ⟨rfl, rfl⟩
    have hne : ¬ nI (plS L (kAl sy pz pa bs x.2).length) = -1 := nI_m1 (by omega)
    refine ⟨fr _ _ _ _, Or.inl ⟨⟨⟨c1, by rw [lsO_eq c2]; exact c2⟩, by rw [lsO_eq c2]; exact c3⟩, by rw [if_neg hne], ?_, ?_, ?_, ?_, ?_⟩⟩
    · rw [lsO_eq c2]; simp [mI_1]
    · simp [mI_1]
    · rw [lsO_eq c2]; simp [mI_1, c5]
    · simp [mI_1]
    · rw [lsO_eq c2]
      intro y hy
      rw [mI_1, if_neg (by omega), mI_1, if_neg (by omega), mI_1, if_neg (by omega), mI_1, if_neg (by omega)]
      exact cd_G c6 y hy
end
