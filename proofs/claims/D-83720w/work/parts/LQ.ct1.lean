/-! the twin compiles: all processors -/
section
variable {sy : List Sym} {pz : List (Nat × Nat)} {pa : List (List Nat)} {bs : List Tm} {rt : List (Nat × Tm)} {nl : Nat} {sg : Nat → Nat × Nat}
/-- what typing may change -/
def gYl (h h' : mj_H) : Prop := (∀ g i j, ¬ ((116 ≤ g ∧ g ≤ 130) ∨ (g = 15 ∧ (j = 70 ∨ j = 77 ∨ j = 79 ∨ j = 81 ∨ j = 89)) ∨ g = 85) → h'.1 g i j = h.1 g i j) ∧ h'.2 = h.2
theorem gYl.rf (h : mj_H) : gYl h h := ⟨fun _ _ _ _ => rfl, rfl⟩
theorem gYl.tr {h h1 h2 : mj_H} (a : gYl h h1) (b : gYl h1 h2) : gYl h h2 := ⟨fun g i j c => (b.1 g i j c).trans (a.1 g i j c), b.2.trans a.2⟩
/-- the tree, measured, with its roots -/
def tJ (sy : List Sym) (pz : List (Nat × Nat)) (pa : List (List Nat)) (bs : List Tm) (rt : List (Nat × Tm)) (nl : Nat) (sg : Nat → Nat × Nat) (h : mj_H) : Prop := tTr sy pz pa bs nl sg h ∧ h.1 15 0 16 = 0 ∧ ∀ k, k < 6 → match rt.find? (fun x => x.1 == k) with | none => h.1 108 0 k = 0 | some x => ∃ j lo hi, h.1 108 0 k = nI j ∧ (1 ≤ lo ∧ lo ≤ j ∧ j < hi ∧ hi ≤ 7000) ∧ tQF sy pz pa h x.2 0 0 0 (nI j) lo hi 1 0
def tLn (sy : List Sym) (pz : List (Nat × Nat)) (pa : List (List Nat)) (bs : List Tm) (rt : List (Nat × Tm)) (k : Nat) (h : mj_H) : Prop := ∀ p, p < k → ∀ x, rt.find? (fun x => x.1 == p) = some x → tTd sy pz pa bs p x.2 h
theorem t_lp {D : Nat} {h0 : mj_H} {Q : Option mj_V → mj_H → Prop} (hD : 170 ≤ D) (J : ∀ h, gYl h0 h → tJ sy pz pa bs rt nl sg h)
    (hR : ∀ k x, rt.find? (fun x => x.1 == k) = some x → tSu bs bs.length + tWl x.2 0 ≤ 12900 ∧ ∃ sr, rut sy pa nl x.2 sr ∧ sr.2 ≤ sy.length ∧ (mz sy pz x.2 0).2 < 1000000)
    (Ke : ∀ h', gYl h0 h' → tLn sy pz pa bs rt 6 h' → mP (mj_R mg (D + 2) mq_319 (185, [(1, vI (nI 6)), (0, vR 15 0)], [], h')) Q)
    (Kb : ∀ h' p x, gYl h0 h' → p < 6 → rt.find? (fun x => x.1 == p) = some x → ¬ okLn sy pz pa bs x.2 → Q (some (vI (-1))) (mj_sI (mj_sI h' 15 0 16 6) 15 0 28 0)) :
    ∀ m k h, k + m = 6 → gYl h0 h → tLn sy pz pa bs rt k h → mP (mj_R mg (D + 2) mq_319 (143, [(1, vI (nI k)), (0, vR 15 0)], [], h)) Q := by
  intro m
  induction m with
  | zero =>
    intro k h hk f I
    have e : k = 6 := by omega
    subst e
    rw [q_319_143, if_pos (show (6 : Int32) ≤ nI 6 by decide)]
    exact Ke h f I
  | succ m ih =>
    intro k h hk f I
    have ik : mj_in (nI k) 6 := (in_nI (by omega)).mpr (by omega)
    have ck : (nI k).toNatClampNeg = k := nI_clamp (by omega)
    obtain ⟨T, z16, Jr⟩ := J h f
    have b := Jr k (by omega)
    rw [q_319_143, if_neg (show ¬ (6 : Int32) ≤ nI k from nI_ge (show k < 6 by omega) (by decide : (6 : Nat) < 2 ^ 31)), tb_0 z16, mj_xi_ret, if_neg (by decide), if_pos ik, ck]
    have nx : ∀ h2, mj_R mg (D + 2) mq_319 (179, [(1, vI (nI k)), (0, vR 15 0)], [], h2) = mj_R mg (D + 2) mq_319 (143, [(1, vI (nI (k + 1))), (0, vR 15 0)], [], h2) := by
      intro h2
      rw [q_319_179, k_1, nI_add]
    cases hx : rt.find? (fun x => x.1 == k) with
    | none =>
      rw [hx] at b
      rw [if_pos (show h.1 108 0 k ≤ 0 from by rw [b]; decide), nx]
      refine ih (k + 1) h (by omega) f (fun p hp x hpx => ?_)
      have : p ≠ k := fun e => by rw [e, hx] at hpx; cases hpx
      exact I p (by omega) x hpx
    | some x =>
      rw [hx] at b
      obtain ⟨j, lo, hi, b1, b2, b3⟩ := b
      rw [if_neg (show ¬ h.1 108 0 k ≤ 0 from by rw [b1]; exact nI_ge (a := 0) (by omega) (by omega))]
      obtain ⟨r0, sr, r1, r2, r3⟩ := hR k x hx
      refine mP_xi (mP_mono (t_gen2 (Dp := D) T hD r0 (by omega) r1 r2 b1 ⟨b2.1, b2.2.2.2⟩ b3 r3) ?_)
      rintro v h2 ⟨g2, hc⟩
      have f3 : gYl h h2 := ⟨fun g i j c => g2.1 g i j (by omega), g2.2⟩
      rcases hc with ⟨c1, c2⟩ | ⟨c1, c2⟩
      · refine ⟨1, c1, ?_⟩
        rw [if_pos (show ¬ (1 : Int32) = 0 by decide), nx]
        refine ih (k + 1) h2 (by omega) (f.tr f3) (fun p hp y hpy => ?_)
        by_cases e : p = k
        · subst e
          rw [hx] at hpy
          cases hpy
          exact c2
        · exact (I p (by omega) y hpy).mv (g2.1 126 0 p (by omega)) (g2.1 127 0 p (by omega)) (fun z hz => g2.1 125 0 _ (by omega))
      · refine ⟨0, c2, ?_⟩
        rw [if_neg (show ¬ ¬ (0 : Int32) = 0 by decide), nx, t_e143 (by omega) (by rw [mI_1, if_pos ⟨rfl, rfl, rfl⟩]; decide)]
        exact mP_ret (Kb h2 k x (f.tr f3) (by omega) hx c1)
/-- counting the processors -/
theorem t_cnt {D : Nat} {h : mj_H} (b : ∀ k, k < 6 → match rt.find? (fun x => x.1 == k) with | none => h.1 108 0 k = 0 | some _ => ∃ j, h.1 108 0 k = nI j ∧ 1 ≤ j ∧ j < 2 ^ 31) : ∀ m k, k + m = 6 → mj_R mg (D + 1) mq_319 (212, [(2, vI (nI k)), (1, vI (nI (nPr rt k))), (0, vR 15 0)], [], h) = some (.inl (some (vI (nI (nPr rt 6))), h)) := by
  intro m
  induction m with
  | zero =>
    intro k hk
    have e : k = 6 := by omega
    subst e
    rw [q_319_212, if_pos (show (6 : Int32) ≤ nI 6 by decide)]
  | succ m ih =>
    intro k hk
    have ik : mj_in (nI k) 6 := (in_nI (by omega)).mpr (by omega)
    have ck : (nI k).toNatClampNeg = k := nI_clamp (by omega)
    have y := b k (by omega)
    have i1 := ih (k + 1) (by omega)
    rw [q_319_212, if_neg (show ¬ (6 : Int32) ≤ nI k from nI_ge (show k < 6 by omega) (by decide : (6 : Nat) < 2 ^ 31)), if_pos ik, ck]
    cases hx : rt.find? (fun x => x.1 == k) with
    | none =>
      rw [hx] at y
      have e : nPr rt (k + 1) = nPr rt k := by
        show nPr rt k + (if (rt.find? (fun x => x.1 == k)).isSome then 1 else 0) = _
        rw [hx]; rfl
      rw [if_pos (show h.1 108 0 k ≤ 0 from by rw [y]; decide), q_319_234, k_1, nI_add]
      rw [e] at i1
      exact i1
    | some x =>
      rw [hx] at y
      obtain ⟨j, y1, y2, y3⟩ := y
      have e : nPr rt (k + 1) = nPr rt k + 1 := by
        show nPr rt k + (if (rt.find? (fun x => x.1 == k)).isSome then 1 else 0) = _
        rw [hx]; rfl
      rw [if_neg (show ¬ h.1 108 0 k ≤ 0 from by rw [y1]; exact nI_ge (a := 0) (by omega) y3), q_319_234, k_1, nI_add, nI_add]
      rw [e] at i1
      exact i1
end
