/-! the twin: what is refused, keys -/
def yFA (h h' : mj_H) : Prop := (∀ g i j, ¬ (i = 0 ∧ ((131 ≤ g ∧ g ≤ 157) ∨ (g = 15 ∧ (j = 0 ∨ j = 110 ∨ j = 111 ∨ j = 113 ∨ j = 120 ∨ j = 121)))) → h'.1 g i j = h.1 g i j) ∧ h'.2 = h.2
section
variable {G : PgS} {S S' : Sy} {h0 h h' : mj_H} {d p : Nat} {bt pk : Int32} {s s1 s' : Cr} {w w' : Wd}
theorem yFS.a (a : yFS h h') : yFA h h' := ⟨fun g i j c => a.1 g i j (by omega), a.2⟩
theorem yFA.tr {h h1 h2 : mj_H} (a : yFA h h1) (b : yFA h1 h2) : yFA h h2 := ⟨fun g i j c => (b.1 g i j c).trans (a.1 g i j c), b.2.trans a.2⟩
theorem yFA.th (v : Int32) : yFA h (mj_sI h 15 0 0 v) := ⟨fun g i j c => by rw [mI_1, if_neg (by omega)], rfl⟩
theorem YG.ma (a : YG G h) (f : yFA h h') : YG G h' := by
  obtain ⟨a1, a2, a3, a4, a5⟩ := a
  refine ⟨fun p hp => ?_, fun l hl => ?_, ?_, fun p hp hg x hx hc => ?_, ?_⟩
  · rw [f.1 108 0 p (by omega)]; exact a1 p hp
  · rw [f.1 106 0 l (by omega), f.1 107 0 l (by omega)]; exact a2 l hl
  · rw [f.1 15 0 52 (by omega)]; exact a3
  · rw [f.1 125 0 _ (by omega)]; exact a4 p hp hg x hx hc
  · rw [f.1 15 0 58 (by omega)]; exact a5
theorem yW.mf (a : yW w h) (f : ∀ g j, (g = 15 ∧ (j = 110 ∨ j = 111 ∨ j = 113)) ∨ (150 ≤ g ∧ g ≤ 157) → h'.1 g 0 j = h.1 g 0 j) : yW w h' := by
  obtain ⟨⟨b1, b2, b3⟩, bb, bc, be⟩ := a
  refine ⟨⟨(f _ _ (by omega)).trans b1, (f _ _ (by omega)).trans b2, (f _ _ (by omega)).trans b3⟩, fun m hm => ?_, fun x hx => (f _ _ (by omega)).trans (bc x hx), fun x hx => (f _ _ (by omega)).trans (be x hx)⟩
  obtain ⟨m1, m2, m3, m4, m5, m6⟩ := bb m hm
  exact ⟨(f _ _ (by omega)).trans m1, fun z => (f _ _ (by omega)).trans (m2 z), (f _ _ (by omega)).trans m3, (f _ _ (by omega)).trans m4, (f _ _ (by omega)).trans m5, fun z => (f _ _ (by omega)).trans (m6 z)⟩
theorem YSy.th (a : YSy G S bt pk h) (v : Int32) : YSy G S bt pk (mj_sI h 15 0 0 v) := by
  obtain ⟨a1, a2, a3, a4, a5⟩ := a
  refine ⟨fun q hq hg => ⟨(a1 q hq hg).1.mv (fun g i j c => by rw [mI_1, if_neg (by omega)]), (a1 q hq hg).2⟩, fun q hq hg => ?_, a3.mf (fun g j c => by rw [mI_1, if_neg (by omega)]), by rw [mI_1, if_neg (by omega)]; exact a4, by rw [mI_1, if_neg (by omega)]; exact a5⟩
  obtain ⟨c1, c2⟩ := a2 q hq hg
  exact ⟨by rw [mI_1, if_neg (by omega)]; exact c1, fun x hx => by rw [mI_1, if_neg (by omega)]; exact c2 x hx⟩
/-- what is thrown is kept -/
theorem y_ref {x1 x2 x3 : Int32} {k : Nat} (hk : k = if ¬ x1 = 0 then 1 else if ¬ x2 = 0 then 2 else if ¬ x3 = 0 then 3 else 0) : mj_R mg d mq_198 (0, [(0, vR 15 0), (1, vI x1), (2, vI x2), (3, vI x3)], [], h) = some (.inl (some (vI (if k = 0 then 0 else 1)), mj_sI h 15 0 0 (nI k))) := by
  rw [q_198_0]
  by_cases c1 : x1 = 0
  · rw [if_neg (fun z => z c1)] at hk
    by_cases c2 : x2 = 0
    · rw [if_neg (fun z => z c2)] at hk
      by_cases c3 : x3 = 0
      · rw [if_neg (fun z => z c3)] at hk
        subst hk
        rw [if_pos c1, if_pos c2, if_pos c3, q_198_26, if_pos (by decide), q_198_41, if_pos (Or.inl rfl)]
        rfl
      · rw [if_pos c3] at hk
        subst hk
        rw [if_pos c1, if_pos c2, if_neg c3, q_198_26, if_neg (by decide), q_198_41, if_pos (Or.inr rfl)]
        rfl
    · rw [if_pos c2] at hk
      subst hk
      rw [if_pos c1, if_neg c2, q_198_26, if_neg (by decide), q_198_41, if_pos (Or.inr rfl)]
      rfl
  · rw [if_pos c1] at hk
    subst hk
    rw [if_neg c1, q_198_26, if_neg (by decide), q_198_41, if_pos (Or.inr rfl)]
    rfl
theorem yW.giv {v : Int32} (a : yW w h) (hi : mj_in (w.1 1) 200) : yW (wGiv w v) (mj_sI (mj_sI h 150 0 (w.1 1).toNatClampNeg v) 15 0 110 (w.1 1 + 1)) := by
  obtain ⟨⟨b1, b2, b3⟩, bb, bc, be⟩ := a
  have cc : ∀ g j, ¬ g = 150 → ¬ (g = 15 ∧ j = 110) → (mj_sI (mj_sI h 150 0 (w.1 1).toNatClampNeg v) 15 0 110 (w.1 1 + 1)).1 g 0 j = h.1 g 0 j := fun g j z1 z2 => by rw [mI_1, if_neg (by omega), mI_1, if_neg (by omega)]
  refine ⟨⟨?_, (cc _ _ (by omega) (by omega)).trans b2, (cc _ _ (by omega) (by omega)).trans b3⟩, fun m hm => ?_, fun x hx => ?_, fun x hx => (cc _ _ (by omega) (by omega)).trans (be x hx)⟩
  · rw [mI_same]; rfl
  · obtain ⟨m1, m2, m3, m4, m5, m6⟩ := bb m hm
    exact ⟨(cc _ _ (by omega) (by omega)).trans m1, fun z => (cc _ _ (by omega) (by omega)).trans (m2 z), (cc _ _ (by omega) (by omega)).trans m3, (cc _ _ (by omega) (by omega)).trans m4, (cc _ _ (by omega) (by omega)).trans m5, fun z => (cc _ _ (by omega) (by omega)).trans (m6 z)⟩
  · show _ = if x = _ then _ else _
    rw [mI_1, if_neg (by omega), mI_1]
    by_cases e : x = (w.1 1).toNatClampNeg
    · rw [if_pos ⟨rfl, rfl, e⟩, if_pos e]
    · rw [if_neg (fun z => e z.2.2), if_neg e]; exact bc x hx
theorem y_inp {v : Int32} (a : YT G S h) (g : YG G h) (st : sStl G S) (ne : ¬ S.2.1.1 1 = 200) (e : sInp G S v = some S') : ∃ h', mj_R mg (d + 6) mq_350 (0, [(0, vR 15 0), (1, vI v)], [], h) = some (.inl (some (vI (S.2.1.1 1 + 1)), h')) ∧ YT G S' h' ∧ yFA h h' ∧ h'.1 15 0 0 = 0 := by
  have i0 : mj_in 0 6 := by decide
  have c0 : (0 : Int32).toNatClampNeg = 0 := by decide
  unfold sInp at e
  by_cases c : mj_in (S.2.1.1 1) 200
  · rw [if_pos c] at e
    have k1 : h.1 15 0 110 = S.2.1.1 1 := a.2.2.1.1.1
    have rf := y_ref (d := d + 5) (h := h) (x1 := 0) (x2 := 0) (x3 := 0) (k := 0) rfl
    have rf : mj_R mg (d + 5) mq_198 (0, [(0, vR 15 0), (1, vI 0), (2, vI 0), (3, vI 0)], [], h) = some (.inl (some (vI 0), mj_sI h 15 0 0 0)) := rf
    have k2 : (mj_sI h 15 0 0 0).1 15 0 110 = S.2.1.1 1 := by rw [mI_1, if_neg (by omega)]; exact k1
    have k3 : (mj_sI h 15 0 0 0).1 108 0 0 = h.1 108 0 0 := by rw [mI_1, if_neg (by omega)]
    have A0 := a.th 0
    rw [q_350_0, if_pos g.2.2.2.2, q_350_13, if_neg g.2.2.2.2, k1, if_pos ne, q_350_34, q_350_35, rf, mj_xi_ret, if_pos rfl, k2, if_pos c, if_pos i0, c0, k3]
    have B := A0.2.2.1.giv (v := v) c
    have epk' : (mj_sI (mj_sI (mj_sI h 15 0 0 0) 150 0 (S.2.1.1 1).toNatClampNeg v) 15 0 110 (S.2.1.1 1 + 1)).1 15 0 121 = S.2.2.2 := by rw [mI_1, if_neg (by omega), mI_1, if_neg (by omega)]; exact A0.2.2.2.2
    have A : YSy G (sW S (wGiv S.2.1 v)) S.2.2.1 S.2.2.2 _ := A0.wd B epk' (fun g i j c => by rw [mI_1, if_neg (by omega), mI_1, if_neg (by omega)])
    have F : yFA h (mj_sI (mj_sI (mj_sI h 15 0 0 0) 150 0 (S.2.1.1 1).toNatClampNeg v) 15 0 110 (S.2.1.1 1 + 1)) := ⟨fun g i j c => by rw [mI_1, if_neg (by omega), mI_1, if_neg (by omega), mI_1, if_neg (by omega)], rfl⟩
    have T0 : (mj_sI (mj_sI (mj_sI h 15 0 0 0) 150 0 (S.2.1.1 1).toNatClampNeg v) 15 0 110 (S.2.1.1 1 + 1)).1 15 0 0 = 0 := by rw [mI_1, if_neg (by omega), mI_1, if_neg (by omega), mI_same]
    generalize mj_sI (mj_sI (mj_sI h 15 0 0 0) 150 0 (S.2.1.1 1).toNatClampNeg v) 15 0 110 (S.2.1.1 1 + 1) = h1 at A B F T0
    have g1 := g.ma F
    by_cases cp : G.1 0 = true
    · rw [if_pos cp] at e
      have R := A.rs (p := 0) (by omega) cp
      have R : yS 0 h1 (S.1 0) (wGiv S.2.1 v) h1 := R
      have h5 : nI 13 < (S.1 0).1 5 := Int32.lt_trans (nI_lt (a := 13) (b := 15) (by omega) (by omega)) (a.1 0 (by omega) cp).2
      have jl : adM (S.1 0) (nI 13) = some 13 := by unfold adM; rw [if_pos ⟨in_n (by omega) (by omega), h5⟩, nI_clamp (by omega)]
      have ld := y_ld (d := d + 4) R.f (by omega) jl
      have ld : mj_R mg (d + 5) mq_322 (0, [(0, vR 15 0), (1, vI 0), (2, vI 13)], [], h1) = _ := ld
      rw [if_neg (y_has1 g (by omega) cp).2, ld, mj_xi_ret, q_350_84]
      obtain ⟨⟨b0, s1⟩, t1, t2⟩ := Option.bind_eq_some_iff.mp e
      have stl := st 0 (by omega) cp
      -- the end
      have fin : ∀ (x2 : Int32) (h2 : mj_H) (w2 : Wd) (s2 : Cr) (h3 : mj_H), mj_R mg (d + 5) mq_326 (0, [(0, vR 15 0), (1, vI (nI 0))], [], h2) = some (.inl (none, h3)) → yS 0 h1 s2 w2 h3 → w2.1 1 = S.2.1.1 1 + 1 → s2.1 5 = (S.1 0).1 5 → ∃ h', mj_R mg (d + 6) mq_350 (165, [(2, vI x2), (0, vR 15 0), (1, vI v)], [], h2) = some (.inl (some (vI (S.2.1.1 1 + 1)), h')) ∧ YT G (sC (sW S w2) 0 s2) h' ∧ yFA h h' ∧ h'.1 15 0 0 = 0 := by
        intro x2 h2 w2 s2 h3 q3 r3 ew e5
        have q3 : mj_R mg (d + 5) mq_326 (0, [(0, vR 15 0), (1, vI 0)], [], h2) = some (.inl (none, h3)) := q3
        obtain ⟨z1, z2⟩ := A.upW (by omega) cp r3 e5
        have k110 : h3.1 15 0 110 = S.2.1.1 1 + 1 := r3.2.1.1.1.trans ew
        rw [q_350_165, q3, mj_xv_ret, k110]
        exact ⟨h3, rfl, z1, F.tr z2.a, (z2.1 15 0 0 (by omega)).trans T0⟩
      unfold cCome at t1
      by_cases q : (S.1 0).2.1 13 = -1
      · rw [if_pos q] at t1
        have e9 := Option.some.inj t1
        cases e9
        rw [if_neg (show ¬ false = true by decide)] at t2
        obtain ⟨s2, t3, t4⟩ := Option.map_eq_some_iff.mp t2
        subst t4
        obtain ⟨h3, q3, a3⟩ := y_yls (d := d + 2) R.f (by omega) stl.2 t3
        rw [if_pos q, q_350_112, if_pos q]
        exact fin _ _ _ _ _ q3 (R.up a3) rfl (cSettle_5 t3)
      · rw [if_neg q] at t1
        by_cases q2 : mj_in ((S.1 0).2.1 13) 8032
        · rw [if_pos q2] at t1
          obtain ⟨u, j3, t1⟩ := Option.bind_eq_some_iff.mp t1
          have ld3 := y_ld (d := d + 4) R.f (by omega) j3
          have ld3 : mj_R mg (d + 5) mq_322 (0, [(0, vR 15 0), (1, vI 0), (2, vI ((S.1 0).2.1 13 / 2 - 3))], [], h1) = _ := ld3
          rw [if_neg q, hf_sh q2, ld3, mj_xi_ret]
          by_cases q3 : (S.1 0).2.1 u = 0
          · rw [if_pos q3] at t1
            obtain ⟨v1, j2, t1⟩ := Option.bind_eq_some_iff.mp t1
            obtain ⟨z, j4, t1⟩ := Option.bind_eq_some_iff.mp t1
            obtain ⟨t, t5, t6⟩ := Option.map_eq_some_iff.mp t1
            cases t6
            rw [if_pos rfl] at t2
            by_cases ct : S.2.1.1 2 = S.2.1.1 1
            · rw [if_pos ct] at t2
              obtain ⟨s2, t3, t4⟩ := Option.map_eq_some_iff.mp t2
              subst t4
              have ld2 := y_ld (d := d + 4) R.f (by omega) j2
              have ld2 : mj_R mg (d + 5) mq_322 (0, [(0, vR 15 0), (1, vI 0), (2, vI ((S.1 0).2.1 13 / 2 - 2))], [], h1) = _ := ld2
              have ta : h1.1 15 0 111 = S.2.1.1 1 := R.2.1.1.2.1.trans ct
              have hi : (S.2.1.1 1).toNatClampNeg < 200 := by
                have e3 : (S.2.1.1 1).toNatClampNeg = (S.2.1.1 1).toInt.toNat := rfl
                have := c.1; have := c.2; omega
              have iv : h1.1 150 0 (S.2.1.1 1).toNatClampNeg = v := (R.2.1.2.2.1 _ hi).trans (if_pos rfl)
              obtain ⟨p4, a4⟩ := y_st (d := d + 4) (v := v) R.f (by omega) j4
              have p4 : mj_R mg (d + 5) mq_323 (0, [(0, vR 15 0), (1, vI 0), (2, vI ((S.1 0).2.1 v1)), (3, vI v)], [], h1) = _ := p4
              have R4 := R.up a4
              have ta4 : (mj_sI h1 131 0 (4016 * 0 + z) v).1 15 0 111 = S.2.1.1 1 := R4.2.1.1.2.1.trans ct
              have R5 : yS 0 h1 (sM (S.1 0) z v) (wH (wGiv S.2.1 v) 2 (S.2.1.1 1 + 1)) (mj_sI (mj_sI h1 131 0 (4016 * 0 + z) v) 15 0 111 (S.2.1.1 1 + 1)) := R4.wd (R4.2.1.ta _) (fun g i j cc => by rw [mI_1, if_neg (by omega)]) rfl
              obtain ⟨p6, a6⟩ := y_st (d := d + 4) (v := -1) (x := nI 13) (n := 13) R5.f (by omega) (by exact jl)
              have p6 : mj_R mg (d + 5) mq_323 (0, [(0, vR 15 0), (1, vI 0), (2, vI 13), (3, vI (-1))], [], mj_sI (mj_sI h1 131 0 (4016 * 0 + z) v) 15 0 111 (S.2.1.1 1 + 1)) = _ := p6
              have R6 := R5.up a6
              obtain ⟨h7, p7, a7⟩ := y_rset (d := d + 2) (d2 := d + 2) R6.f (by omega) t5 t3
              have p7 : mj_R mg (d + 5) mq_324 (0, [(0, vR 15 0), (1, vI 0), (2, vI ((S.1 0).2.1 13))], [], _) = _ := p7
              obtain ⟨h8, p8, a8⟩ := a7
              have e5 : s2.1 5 = (S.1 0).1 5 := by rw [cSettle_5 t3, cReady_5 t5]; rfl
              rw [if_pos q3, q_350_112, if_neg q, hf_sh q2, ld2, mj_xi_ret, ta, if_pos c, iv, p4, mj_xv_ret, ta4, p6, mj_xv_ret, p7, mj_xv_ret]
              rw [ct]
              exact fin _ _ _ _ _ p8 (R6.up a8) rfl e5
            · rw [if_neg ct] at t2; cases t2
          · rw [if_neg q3] at t1
            obtain ⟨t, t5, t6⟩ := Option.map_eq_some_iff.mp t1
            cases t6
            rw [if_neg (show ¬ false = true by decide)] at t2
            obtain ⟨s2, t3, t4⟩ := Option.map_eq_some_iff.mp t2
            subst t4
            obtain ⟨h7, p7, a7⟩ := y_wset (d := d + 1) (d2 := d + 2) R.f (by omega) stl.2 t5 t3
            have p7 : mj_R mg (d + 5) mq_343 (0, [(0, vR 15 0), (1, vI 0), (2, vI ((S.1 0).2.1 13))], [], h1) = _ := p7
            obtain ⟨h8, p8, a8⟩ := a7
            have e5 : s2.1 5 = (S.1 0).1 5 := by rw [cSettle_5 t3, cWake_5 t5]
            rw [if_neg q3, p7, mj_xv_ret]
            exact fin _ _ _ _ _ p8 (R.up a8) rfl e5
        · rw [if_neg q2] at t1; cases t1
    · rw [if_neg cp] at e
      have e9 := Option.some.inj e
      subst e9
      have ng : G.1 0 = false := by cases z : G.1 0 with | false => rfl | true => exact (cp z).elim
      obtain ⟨n1, n2⟩ := A.2.1 0 (by omega) ng
      have yb := y_yabs (d := d + 4) n1 (by omega)
      have yb : mj_R mg (d + 5) mq_326 (0, [(0, vR 15 0), (1, vI 0)], [], h1) = _ := yb
      have k110 : h1.1 15 0 110 = S.2.1.1 1 + 1 := B.1.1
      rw [if_pos (show h.1 108 0 0 ≤ 0 by rw [(g.1 0 (by omega)).2 ng]; decide), q_350_84, if_pos rfl, q_350_112, if_pos rfl, q_350_165, yb, mj_xv_ret, k110]
      exact ⟨h1, rfl, A, F, T0⟩
  · rw [if_neg c] at e; cases e
end
