/-! the component compiles: all processors -/
section
variable {sy : List Sym} {pz : List (Nat × Nat)} {pa : List (List Nat)} {bs : List Tm} {rt : List (Nat × Tm)} {nl : Nat} {sg : Nat → Nat × Nat}
/-- a processor that was typed -/
def cTd (sy : List Sym) (pz : List (Nat × Nat)) (pa : List (List Nat)) (bs : List Tm) (p : Nat) (R : Tm) (h : mj_H) : Prop := okLn sy pz pa bs R ∧ h.1 13 p 3 = nI (plS (lsO (kX sy pz pa bs R)) (kAl sy pz pa bs R).length) ∧ h.1 13 p 5 = nI (1 + (mz sy pz R 0).1 + (mz sy pz R 0).2 + 3) ∧ h.1 13 p 4 = nI (plS (lsO (kX sy pz pa bs R)) (kSt sy pz pa bs bs.length)) ∧ h.1 13 p 6 = nI (16 + (mz sy pz R 0).2 + 3) ∧ ∀ y, cdF (kX sy pz pa bs R) (lsO (kX sy pz pa bs R)) y < 256 → h.1 69 p y &&& 255 = nI (cdF (kX sy pz pa bs R) (lsO (kX sy pz pa bs R)) y)
theorem cTd.mv {p : Nat} {R : Tm} {h h' : mj_H} (a : cTd sy pz pa bs p R h) (f : ∀ g j, (g = 13 ∧ 3 ≤ j ∧ j ≤ 6) ∨ g = 69 → h'.1 g p j = h.1 g p j) : cTd sy pz pa bs p R h' := by
  obtain ⟨a1, a2, a3, a4, a5, a6⟩ := a
  exact ⟨a1, (f 13 3 (by omega)).trans a2, (f 13 5 (by omega)).trans a3, (f 13 4 (by omega)).trans a4, (f 13 6 (by omega)).trans a5, fun y hy => by rw [f 69 y (by omega)]; exact a6 y hy⟩
def gXl (h h' : mj_H) : Prop := (∀ g i j, ¬ ((g = 2 ∧ j = 10) ∨ g = 10 ∨ g = 35 ∨ g = 36 ∨ (58 ≤ g ∧ g ≤ 66) ∨ g = 69 ∨ (g = 13 ∧ 3 ≤ j ∧ j ≤ 6)) → h'.1 g i j = h.1 g i j) ∧ h'.2 = h.2
theorem gXl.rf (h : mj_H) : gXl h h := ⟨fun _ _ _ _ => rfl, rfl⟩
theorem gXl.tr {h h1 h2 : mj_H} (a : gXl h h1) (b : gXl h1 h2) : gXl h h2 := ⟨fun g i j c => (b.1 g i j c).trans (a.1 g i j c), b.2.trans a.2⟩
theorem gXl.c {h h' : mj_H} (a : gXl h h') : gXc h h' := ⟨fun g i j c => a.1 g i j (by omega), a.2⟩
def cLn (sy : List Sym) (pz : List (Nat × Nat)) (pa : List (List Nat)) (bs : List Tm) (rt : List (Nat × Tm)) (k : Nat) (h : mj_H) : Prop := h.1 2 0 10 = nI (nPr rt k) ∧ ∀ p, p < k → ∀ x, rt.find? (fun x => x.1 == p) = some x → cTd sy pz pa bs p x.2 h
theorem c_lp {D : Nat} {x1 : Int32} {h0 : mj_H} {Q : Option mj_V → mj_H → Prop} (hD : 560 ≤ D) (J : cpJ sy pz pa bs rt nl sg h0)
    (hR : ∀ k x, rt.find? (fun x => x.1 == k) = some x → ∃ sr, rut sy pa nl x.2 sr ∧ sr.2 ≤ sy.length ∧ (mz sy pz x.2 0).2 < 1000000 ∧ tL x.2 0 ≤ 5900)
    (Ke : ∀ h', gXl h0 h' → cLn sy pz pa bs rt 6 h' → mP (mj_R mg (D + 3) mq_12 (106, [(2, vI (nI 6)), (1, vI x1), (0, vR 2 0)], [], h')) Q)
    (Kb : ∀ h' p x, gXl h0 h' → p < 6 → rt.find? (fun x => x.1 == p) = some x → ¬ okLn sy pz pa bs x.2 → Q (some (vI (-1))) (mj_sI (mj_sI (mj_sI h' 2 0 11 6) 2 0 12 (-1)) 2 0 13 (-1))) :
    ∀ m k h, k + m = 6 → gXl h0 h → cLn sy pz pa bs rt k h → mP (mj_R mg (D + 3) mq_12 (106, [(2, vI (nI k)), (1, vI x1), (0, vR 2 0)], [], h)) Q := by
  intro m
  induction m with
  | zero =>
    intro k h hk f I
    have e : k = 6 := by omega
    subst e
    exact Ke h f I
  | succ m ih =>
    intro k h hk f I
    have ik : mj_in (nI k) 6 := (in_nI (by omega)).mpr (by omega)
    have ck : (nI k).toNatClampNeg = k := nI_clamp (by omega)
    have Jh := J.mv f.c
    have b := Jh.2 k (by omega)
    rw [q_12_106, if_neg (show ¬ (6 : Int32) ≤ nI k from nI_ge (show k < 6 by omega) (by decide : (6 : Nat) < 2 ^ 31)), if_pos ik, ck]
    have nx : ∀ h2, mj_R mg (D + 3) mq_12 (153, [(2, vI (nI k)), (1, vI x1), (0, vR 2 0)], [], h2) = mj_R mg (D + 3) mq_12 (106, [(2, vI (nI (k + 1))), (1, vI x1), (0, vR 2 0)], [], h2) := by
      intro h2
      rw [q_12_153, k_1, nI_add]
    cases hx : rt.find? (fun x => x.1 == k) with
    | none =>
      rw [hx] at b
      rw [if_pos b, nx]
      refine ih (k + 1) h (by omega) f ⟨?_, fun p hp x hpx => ?_⟩
      · show h.1 2 0 10 = nI (nPr rt k + if (rt.find? (fun x => x.1 == k)).isSome then 1 else 0)
        rw [hx, I.1]
        rfl
      · have : p ≠ k := fun e => by rw [e, hx] at hpx; cases hpx
        exact I.2 p (by omega) x hpx
    | some x =>
      rw [hx] at b
      obtain ⟨j, lo, hi, b1, b2, b3, b4⟩ := b
      obtain ⟨j', ej, -, j2⟩ := rQ_root b2
      rw [if_neg (show ¬ h.1 46 0 k = -1 from by rw [b1, ej]; exact nI_m1 (by omega))]
      obtain ⟨sr, r1, r2, r3, r4⟩ := hR k x hx
      have f2 : gXl h (mj_sI h 2 0 10 (h.1 2 0 10 + 1)) := ⟨fun g i j c => by rw [mI_1, if_neg (by omega)], rfl⟩
      refine mP_xi (mP_mono (c_type (D := D) (Jh.mv f2.c) (by omega) hx hD r1 r2 r3 r4) ?_)
      rintro v h2 ⟨g2, hc⟩
      have f3 : gXl (mj_sI h 2 0 10 (h.1 2 0 10 + 1)) h2 := ⟨fun g i j c => g2.1 g i j (by omega), g2.2⟩
      rcases hc with ⟨c1, c2, c3, c4, c5, c6, c7⟩ | ⟨c1, c2⟩
      · refine ⟨1, c2, ?_⟩
        rw [if_pos (show ¬ (1 : Int32) = 0 by decide), nx]
        refine ih (k + 1) h2 (by omega) (f.tr (f2.tr f3)) ⟨?_, fun p hp y hpy => ?_⟩
        · show h2.1 2 0 10 = nI (nPr rt k + if (rt.find? (fun x => x.1 == k)).isSome then 1 else 0)
          rw [g2.1 2 0 10 (by omega), mI_1, if_pos ⟨rfl, rfl, rfl⟩, I.1, hx, k_1, nI_add]
          rfl
        · by_cases e : p = k
          · subst e
            rw [hx] at hpy
            cases hpy
            exact ⟨c1, c3, c4, c5, c6, c7⟩
          · refine (I.2 p (by omega) y hpy).mv (fun g i hg => ?_)
            rw [g2.1 g p i (by omega), mI_1, if_neg (by omega)]
      · refine ⟨0, c2, ?_⟩
        rw [if_neg (show ¬ ¬ (0 : Int32) = 0 by decide), q_11_0, mj_xv_ret]
        exact mP_ret (Kb h2 k x (f.tr (f2.tr f3)) (by omega) hx c1)
end
