/-! the twin's beats -/
section
variable {G : PgS} {S S' : Sy} {h0 h h' : mj_H} {d p : Nat} {bt pk : Int32} {s s1 s' : Cr} {w w' : Wd}
theorem y_beat {l : Nat} {b : Bool} (a : YSy G S bt pk h) (g : YG G h) (st : sStl G S) (hl : l < G.2.2.2.1) (e : sBeat G S l = some (b, S')) : ∃ h', mj_R mg (d + 6) mq_346 (0, [(0, vR 15 0), (1, vI (nI l))], [], h) = some (.inl (some (vI (bI b)), h')) ∧ YSy G S' bt (pk + bI b) h' ∧ yFS h h' := by
  obtain ⟨f1, f2, f3, f4⟩ := g.2.1 l hl
  have hl2 : l < 12 := by have := g.2.2.1.2; omega
  have il := in_n hl2 (show 12 < 2 ^ 31 by omega)
  have il3 := in_n (show l < 13 by omega) (show 13 < 2 ^ 31 by omega)
  obtain ⟨l1, l2, l3, l4, l5, l6⟩ := a.2.2.1.2.1 l hl2
  have epk : h.1 15 0 121 = pk := a.2.2.2.2
  unfold sBeat at e
  rw [q_346_0]
  simp only [if_pos il, if_pos il3, nI_clamp (show l < 2 ^ 31 by omega)]
  rw [l5, l1, f1, f3, epk]
  by_cases c5 : S.2.1.2.1 l 5 = 0
  · rw [if_neg (fun z => z c5)] at e
    rw [if_pos c5]
    by_cases cg : ¬ S.2.1.2.1 l 0 = 0 ∧ S.2.1.2.1 l 2 = S.2.1.2.1 l 3 ∧ S.2.1.2.1 l 2 < 4
    · rw [if_pos cg] at e
      have k7 : h.1 157 0 l = 1 := by rw [l6 cg.1, if_pos cg.2]
      have k5 : ∀ x y : Int32, (mj_sI (mj_sI (mj_sI (mj_sI h 157 0 l (0 &&& 1)) 15 0 121 x) 154 0 l y) 155 0 l (S.2.1.2.1 l 4 + 1)).1 155 0 l = S.2.1.2.1 l 4 + 1 := fun x y => mI_same
      rw [if_neg cg.1, k7, if_pos (by decide), l3, l4, k5]
      have B : yW (wL (wL S.2.1 l 2 (S.2.1.2.1 l 2 + 1)) l 4 (S.2.1.2.1 l 4 + 1)) (mj_sI (mj_sI (mj_sI (mj_sI h 157 0 l (0 &&& 1)) 15 0 121 (pk + 1)) 154 0 l (S.2.1.2.1 l 2 + 1)) 155 0 l (S.2.1.2.1 l 4 + 1)) := a.2.2.1.go l (pk + 1) cg.1 cg.2.1
      have epk' : (mj_sI (mj_sI (mj_sI (mj_sI h 157 0 l (0 &&& 1)) 15 0 121 (pk + 1)) 154 0 l (S.2.1.2.1 l 2 + 1)) 155 0 l (S.2.1.2.1 l 4 + 1)).1 15 0 121 = pk + 1 := by rw [mI_1, if_neg (by omega), mI_1, if_neg (by omega), mI_same]
      have A : YSy G (sW S (wL (wL S.2.1 l 2 (S.2.1.2.1 l 2 + 1)) l 4 (S.2.1.2.1 l 4 + 1))) bt (pk + 1) _ := a.wd B epk' (fun g i j c => by rw [mI_1, if_neg (by omega), mI_1, if_neg (by omega), mI_1, if_neg (by omega), mI_1, if_neg (by omega)])
      have F : yFS h (mj_sI (mj_sI (mj_sI (mj_sI h 157 0 l (0 &&& 1)) 15 0 121 (pk + 1)) 154 0 l (S.2.1.2.1 l 2 + 1)) 155 0 l (S.2.1.2.1 l 4 + 1)) := ⟨fun g i j c => by rw [mI_1, if_neg (by omega), mI_1, if_neg (by omega), mI_1, if_neg (by omega), mI_1, if_neg (by omega)], rfl⟩
      have w53 : (mj_sI (mj_sI (mj_sI (mj_sI h 157 0 l (0 &&& 1)) 15 0 121 (pk + 1)) 154 0 l (S.2.1.2.1 l 2 + 1)) 155 0 l (S.2.1.2.1 l 4 + 1)).1 153 0 l = S.2.1.2.1 l 1 := by
        rw [mI_1, if_neg (by omega), mI_1, if_neg (by omega), mI_1, if_neg (by omega), mI_1, if_neg (by omega)]
        exact l2 (Or.inl cg.1)
      generalize mj_sI (mj_sI (mj_sI (mj_sI h 157 0 l (0 &&& 1)) 15 0 121 (pk + 1)) 154 0 l (S.2.1.2.1 l 2 + 1)) 155 0 l (S.2.1.2.1 l 4 + 1) = h1 at A B F epk' w53
      by_cases c4 : S.2.1.2.1 l 4 + 1 = 4
      · rw [if_pos c4] at e
        rw [c4, if_pos (by decide)]
        rw [c4] at A B e
        by_cases cp : G.1 (G.2.2.1 l) = true
        · rw [if_pos cp] at e
          obtain ⟨⟨b0, s1⟩, t1, t2⟩ := Option.bind_eq_some_iff.mp e
          obtain ⟨s2, t3, t4⟩ := Option.map_eq_some_iff.mp t2
          cases t4
          obtain ⟨h2, q2, a2, f2'⟩ := y_whole (d := d) (x2 := nI (G.2.1 l)) A hl2 f4 cp (st _ f4 cp) t1 t3 w53
          exact ⟨h2, q2, a2, F.tr f2'⟩
        · rw [if_neg cp] at e
          have e9 := Option.some.inj e
          cases e9
          have ng : G.1 (G.2.2.1 l) = false := by cases z : G.1 (G.2.2.1 l) with | false => rfl | true => exact (cp z).elim
          obtain ⟨n1, n2⟩ := A.2.1 _ f4 ng
          rw [y_load (d := d + 4) (x := l) f4 (by omega), n2 l (by omega), mj_xi_ret, if_pos rfl, q_346_217, if_pos rfl, q_346_273, y_yabs (d := d + 4) n1 f4, mj_xv_ret]
          exact ⟨_, rfl, A, F⟩
      · rw [if_neg c4] at e
        by_cases c3 : S.2.1.2.1 l 4 + 1 < 4
        · rw [if_pos c3] at e
          have e9 := Option.some.inj e
          cases e9
          rw [if_neg (Int32.not_le.mpr c3)]
          exact ⟨_, rfl, A.wd (B.du l) (by rw [mI_1, if_neg (by omega)]; exact epk') (fun g i j c => by rw [mI_1, if_neg (by omega)]), F.tr ⟨fun g i j c => by rw [mI_1, if_neg (by omega)], rfl⟩⟩
        · rw [if_neg c3] at e; cases e
    · rw [if_neg cg] at e
      have e9 := Option.some.inj e
      cases e9
      have a' : YSy G S bt (pk + bI false) h := by rw [show pk + bI false = pk from Int32.add_zero _]; exact a
      by_cases c0 : S.2.1.2.1 l 0 = 0
      · rw [if_pos c0, q_346_121]
        exact ⟨_, rfl, a', yFS.rf h⟩
      · have k7 : h.1 157 0 l = 0 := by rw [l6 c0, if_neg (fun z => cg ⟨c0, z⟩)]
        rw [if_neg c0, k7, if_neg (fun z => z rfl), q_346_121]
        exact ⟨_, rfl, a', yFS.rf h⟩
  · rw [if_pos c5] at e
    rw [if_neg c5, l3]
    by_cases ck : S.2.1.2.1 l 2 = S.2.1.2.1 l 3 + 1 ∧ ¬ S.2.1.2.1 l 0 = 0 ∧ G.1 (G.2.1 l) = true
    · rw [if_pos ck] at e
      by_cases c4 : S.2.1.2.1 l 3 + 1 = 4
      · rw [if_pos c4] at e
        by_cases c0 : S.2.1.2.1 l 4 = 0
        · rw [if_pos c0] at e
          obtain ⟨s2, t1, t4⟩ := Option.map_eq_some_iff.mp e
          obtain ⟨s1, t2, t3⟩ := Option.bind_eq_some_iff.mp t1
          cases t4
          have A0 : YSy G S bt (pk + 1) (mj_sI (mj_sI h 156 0 l (0 &&& 1)) 15 0 121 (pk + 1)) ∨ True := Or.inr trivial
          have R : yS (G.2.1 l) h (S.1 (G.2.1 l)) S.2.1 h := a.rs f2 ck.2.2
          have C : yC (G.2.1 l) (S.1 (G.2.1 l)) (mj_sI (mj_sI h 156 0 l (0 &&& 1)) 15 0 121 (pk + 1)) := R.1.mv (fun g i j c => by rw [mI_1, if_neg (by omega), mI_1, if_neg (by omega)])
          have Cf : yR (G.2.1 l) (mj_sI (mj_sI h 156 0 l (0 &&& 1)) 15 0 121 (pk + 1)) (S.1 (G.2.1 l)) (mj_sI (mj_sI h 156 0 l (0 &&& 1)) 15 0 121 (pk + 1)) := ⟨C, yF.rf _ _⟩
          have h5 : nI l < (S.1 (G.2.1 l)).1 5 := Int32.lt_trans (nI_lt (a := l) (b := 15) (by omega) (by omega)) (a.1 _ f2 ck.2.2).2
          have jl : adM (S.1 (G.2.1 l)) (nI l) = some l := by unfold adM; rw [if_pos ⟨in_n (by omega) (by omega), h5⟩, nI_clamp (by omega)]
          obtain ⟨p5, a5⟩ := y_st (d := d + 4) (v := -1) Cf f2 jl
          -- host and links
          have k156 : (mj_sI (mj_sI (mj_sI h 156 0 l (0 &&& 1)) 15 0 121 (pk + 1)) 131 0 (4016 * G.2.1 l + l) (-1)).1 156 0 l = 0 := by rw [mI_1, if_neg (by omega), mI_1, if_neg (by omega), mI_same]; rfl
          have W0 : yW (wL S.2.1 l 5 0) (mj_sI (mj_sI (mj_sI h 156 0 l (0 &&& 1)) 15 0 121 (pk + 1)) 131 0 (4016 * G.2.1 l + l) (-1)) := by
            have vv : ∀ m t, (wL S.2.1 l 5 0).2.1 m t = if m = l ∧ t = 5 then 0 else S.2.1.2.1 m t := fun m t => rfl
            have cc : ∀ g j, ¬ (g = 156 ∧ j = l) → ¬ (g = 15 ∧ j = 121) → ¬ g = 131 → (mj_sI (mj_sI (mj_sI h 156 0 l (0 &&& 1)) 15 0 121 (pk + 1)) 131 0 (4016 * G.2.1 l + l) (-1)).1 g 0 j = h.1 g 0 j := fun g j z1 z2 z3 => by rw [mI_1, if_neg (by omega), mI_1, if_neg (by omega), mI_1, if_neg (by omega)]
            obtain ⟨⟨b1, b2, b3⟩, bb, bc, be⟩ := a.2.2.1
            refine ⟨⟨(cc _ _ (by omega) (by omega) (by omega)).trans b1, (cc _ _ (by omega) (by omega) (by omega)).trans b2, (cc _ _ (by omega) (by omega) (by omega)).trans b3⟩, fun m hm => ?_, fun x hx => (cc _ _ (by omega) (by omega) (by omega)).trans (bc x hx), fun x hx => (cc _ _ (by omega) (by omega) (by omega)).trans (be x hx)⟩
            obtain ⟨m1, m2, m3, m4, m5, m6⟩ := bb m hm
            unfold yL
            rw [show (wL S.2.1 l 5 0).2.1 m 0 = S.2.1.2.1 m 0 by rw [vv, if_neg (by omega)], show (wL S.2.1 l 5 0).2.1 m 1 = S.2.1.2.1 m 1 by rw [vv, if_neg (by omega)], show (wL S.2.1 l 5 0).2.1 m 2 = S.2.1.2.1 m 2 by rw [vv, if_neg (by omega)], show (wL S.2.1 l 5 0).2.1 m 3 = S.2.1.2.1 m 3 by rw [vv, if_neg (by omega)], show (wL S.2.1 l 5 0).2.1 m 4 = S.2.1.2.1 m 4 by rw [vv, if_neg (by omega)]]
            refine ⟨(cc _ _ (by omega) (by omega) (by omega)).trans m1, fun z => (cc _ _ (by omega) (by omega) (by omega)).trans (m2 z), (cc _ _ (by omega) (by omega) (by omega)).trans m3, (cc _ _ (by omega) (by omega) (by omega)).trans m4, ?_, fun z => (cc _ _ (by omega) (by omega) (by omega)).trans (m6 z)⟩
            rw [vv]
            by_cases em : m = l
            · rw [if_pos ⟨em, rfl⟩, em]; exact k156
            · rw [if_neg (fun z => em z.1), cc _ _ (by omega) (by omega) (by omega)]; exact m5
          have W1 := W0.cl l (show (wL S.2.1 l 5 0).2.1 l 4 = 0 by show (if l = l ∧ 4 = 5 then _ else _) = _; rw [if_neg (by omega)]; exact c0) k156
          have ew : wClr (wL S.2.1 l 5 0) l = wClr S.2.1 l := by
            refine Prod.ext rfl (Prod.ext (funext fun m => funext fun t => ?_) rfl)
            show (if m = l then (0 : Int32) else if m = l ∧ t = 5 then 0 else S.2.1.2.1 m t) = if m = l then 0 else S.2.1.2.1 m t
            by_cases em : m = l
            · rw [if_pos em, if_pos em]
            · rw [if_neg em, if_neg em, if_neg (fun z => em z.1)]
          rw [ew] at W1
          have R6 : yS (G.2.1 l) (mj_sI (mj_sI h 156 0 l (0 &&& 1)) 15 0 121 (pk + 1)) (sM (S.1 (G.2.1 l)) l (-1)) (wClr S.2.1 l) (mj_sI (mj_sI (mj_sI (mj_sI (mj_sI h 156 0 l (0 &&& 1)) 15 0 121 (pk + 1)) 131 0 (4016 * G.2.1 l + l) (-1)) 152 0 l (0 &&& 1)) 154 0 l 0) := ⟨a5.1.mv (fun g i j c => by rw [mI_1, if_neg (by omega), mI_1, if_neg (by omega)]), W1, ⟨fun g i j c => by rw [mI_1, if_neg (by omega), mI_1, if_neg (by omega)]; exact a5.2.1 g i j (by omega), a5.2.2⟩⟩
          obtain ⟨h7, p7, a7⟩ := y_rset (d := d + 2) (d2 := d + 2) R6.f f2 t2 t3
          obtain ⟨h8, p8, a8⟩ := a7
          have R8 := R6.up a8
          have e5 : s2.1 5 = (S.1 (G.2.1 l)).1 5 := by rw [cSettle_5 t3, cReady_5 t2]; rfl
          rw [if_neg (fun z => z (by rw [ck.1]; exact c4)), y_ld (d := d + 4) Cf f2 jl, mj_xi_ret, p5, mj_xv_ret, p7, mj_xv_ret, p8, mj_xv_ret, q_346_101_2]
          obtain ⟨b1, b2, b3⟩ := R8
          have fr : ∀ g i j, ¬ ((i = 0 ∧ ((132 ≤ g ∧ g ≤ 142 ∧ j = G.2.1 l) ∨ (145 ≤ g ∧ g ≤ 149 ∧ j = G.2.1 l) ∨ (g = 131 ∧ 4016 * G.2.1 l ≤ j ∧ j < 4016 * (G.2.1 l + 1)) ∨ (g = 143 ∧ 2200 * G.2.1 l ≤ j ∧ j < 2200 * (G.2.1 l + 1)) ∨ (g = 144 ∧ (j = 2 * G.2.1 l ∨ j = 2 * G.2.1 l + 1)) ∨ (g = 15 ∧ (j = 111 ∨ j = 113)) ∨ (151 ≤ g ∧ g ≤ 157))) ∨ (g = 15 ∧ i = 0 ∧ j = 121)) → h8.1 g i j = h.1 g i j := by
            intro g i j c
            rw [b3.1 g i j (by omega), mI_1, if_neg (by omega), mI_1, if_neg (by omega)]
          refine ⟨_, rfl, ⟨fun q hq hg' => ?_, fun q hq hg' => ?_, b2, ?_, ?_⟩, ⟨fun g i j c => fr g i j (by omega), b3.2⟩⟩
          · show yC q (if q = G.2.1 l then s2 else S.1 q) h8 ∧ nI 15 < (if q = G.2.1 l then s2 else S.1 q).1 5
            by_cases eq : q = G.2.1 l
            · rw [if_pos eq, eq]
              exact ⟨b1, by rw [e5]; exact (a.1 _ f2 ck.2.2).2⟩
            · rw [if_neg eq]
              exact ⟨(a.1 q hq hg').1.mv (fun g i j c => fr g i j (by omega)), (a.1 q hq hg').2⟩
          · have eq : q ≠ G.2.1 l := fun z => by rw [z, ck.2.2] at hg'; cases hg'
            obtain ⟨c1, c2⟩ := a.2.1 q hq hg'
            exact ⟨(fr _ _ _ (by omega)).trans c1, fun x hx => (fr _ _ _ (by omega)).trans (c2 x hx)⟩
          · rw [fr _ _ _ (by omega)]; exact a.2.2.2.1
          · rw [b3.1 _ _ _ (by omega), mI_same]; rfl
        · rw [if_neg c0] at e; cases e
      · rw [if_neg c4] at e
        by_cases c2 : S.2.1.2.1 l 2 < 4
        · rw [if_pos c2] at e
          have e9 := Option.some.inj e
          cases e9
          rw [if_pos (fun z => c4 (by rw [← ck.1]; exact z)), q_346_101]
          have B : yW (wL (wL S.2.1 l 5 0) l 3 (S.2.1.2.1 l 3 + 1)) (mj_sI (mj_sI (mj_sI h 156 0 l (0 &&& 1)) 15 0 121 (pk + 1)) 157 0 l (1 &&& 1)) := a.2.2.1.ak l (pk + 1) ck.1 c2
          exact ⟨_, rfl, a.wd B (by rw [mI_1, if_neg (by omega), mI_same]; rfl) (fun g i j c => by rw [mI_1, if_neg (by omega), mI_1, if_neg (by omega), mI_1, if_neg (by omega)]), ⟨fun g i j c => by rw [mI_1, if_neg (by omega), mI_1, if_neg (by omega), mI_1, if_neg (by omega)], rfl⟩⟩
        · rw [if_neg c2] at e; cases e
    · rw [if_neg ck] at e; cases e
end
