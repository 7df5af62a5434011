/-! the twin's links -/
section
variable {G : PgS} {S S' : Sy} {h0 h h' : mj_H} {d p : Nat} {bt pk : Int32} {s s1 s' : Cr} {w w' : Wd}
/-- what changes at one link alone -/
theorem yW.l1 (a : yW w h) (l : Nat) (e1 : w'.1 = w.1) (e2 : w'.2.2 = w.2.2) (e3 : ∀ m t, m ≠ l → w'.2.1 m t = w.2.1 m t) (f : ∀ g j, ¬ (152 ≤ g ∧ g ≤ 157 ∧ j = l) → ¬ (g = 15 ∧ j = 121) → h'.1 g 0 j = h.1 g 0 j) (n : l < 12 → yL w' h' l) : yW w' h' := by
  obtain ⟨⟨a1, a2, a3⟩, b, c, e⟩ := a
  refine ⟨⟨?_, ?_, ?_⟩, fun m hm => ?_, fun x hx => ?_, fun x hx => ?_⟩
  · rw [e1, f _ _ (by omega) (by omega)]; exact a1
  · rw [e1, f _ _ (by omega) (by omega)]; exact a2
  · rw [e1, f _ _ (by omega) (by omega)]; exact a3
  · by_cases q : m = l
    · subst q; exact n hm
    · obtain ⟨l1, l2, l3, l4, l5, l6⟩ := b m hm
      unfold yL
      rw [e3 m 0 q, e3 m 1 q, e3 m 2 q, e3 m 3 q, e3 m 4 q, e3 m 5 q]
      exact ⟨(f _ _ (by omega) (by omega)).trans l1, fun z => (f _ _ (by omega) (by omega)).trans (l2 z), (f _ _ (by omega) (by omega)).trans l3, (f _ _ (by omega) (by omega)).trans l4, (f _ _ (by omega) (by omega)).trans l5, fun z => (f _ _ (by omega) (by omega)).trans (l6 z)⟩
  · rw [e2, f _ _ (by omega) (by omega)]; exact c x hx
  · rw [e2, f _ _ (by omega) (by omega)]; exact e x hx
theorem i_s1 {x : Int32} : ¬ x + 1 = x := by
  intro z
  have : x + 1 - x = 0 := by rw [z, Int32.sub_self]
  rw [Int32.add_comm, Int32.add_sub_cancel] at this
  exact absurd this (by decide)
/-- a byte goes -/
theorem yW.go (a : yW w h) (l : Nat) (v : Int32) (c0 : ¬ w.2.1 l 0 = 0) (c2 : w.2.1 l 2 = w.2.1 l 3) : yW (wL (wL w l 2 (w.2.1 l 2 + 1)) l 4 (w.2.1 l 4 + 1)) (mj_sI (mj_sI (mj_sI (mj_sI h 157 0 l 0) 15 0 121 v) 154 0 l (w.2.1 l 2 + 1)) 155 0 l (w.2.1 l 4 + 1)) := by
  have vv : ∀ m t, (wL (wL w l 2 (w.2.1 l 2 + 1)) l 4 (w.2.1 l 4 + 1)).2.1 m t = if m = l ∧ t = 4 then w.2.1 l 4 + 1 else if m = l ∧ t = 2 then w.2.1 l 2 + 1 else w.2.1 m t := fun m t => rfl
  have cc : ∀ g j, ¬ (g = 157 ∧ j = l) → ¬ (g = 15 ∧ j = 121) → ¬ (g = 154 ∧ j = l) → ¬ (g = 155 ∧ j = l) → (mj_sI (mj_sI (mj_sI (mj_sI h 157 0 l 0) 15 0 121 v) 154 0 l (w.2.1 l 2 + 1)) 155 0 l (w.2.1 l 4 + 1)).1 g 0 j = h.1 g 0 j := fun g j z1 z2 z3 z4 => by rw [mI_1, if_neg (by omega), mI_1, if_neg (by omega), mI_1, if_neg (by omega), mI_1, if_neg (by omega)]
  refine a.l1 l rfl rfl (fun m t q => by rw [vv, if_neg (fun z => q z.1), if_neg (fun z => q z.1)]) (fun g j z1 z2 => cc g j (by omega) (by omega) (by omega) (by omega)) (fun hl => ?_)
  obtain ⟨l1, l2, l3, l4, l5, l6⟩ := a.2.1 l hl
  have v0 : (wL (wL w l 2 (w.2.1 l 2 + 1)) l 4 (w.2.1 l 4 + 1)).2.1 l 0 = w.2.1 l 0 := by rw [vv, if_neg (by omega), if_neg (by omega)]
  have v1 : (wL (wL w l 2 (w.2.1 l 2 + 1)) l 4 (w.2.1 l 4 + 1)).2.1 l 1 = w.2.1 l 1 := by rw [vv, if_neg (by omega), if_neg (by omega)]
  have v2 : (wL (wL w l 2 (w.2.1 l 2 + 1)) l 4 (w.2.1 l 4 + 1)).2.1 l 2 = w.2.1 l 2 + 1 := by rw [vv, if_neg (by omega), if_pos ⟨rfl, rfl⟩]
  have v3 : (wL (wL w l 2 (w.2.1 l 2 + 1)) l 4 (w.2.1 l 4 + 1)).2.1 l 3 = w.2.1 l 3 := by rw [vv, if_neg (by omega), if_neg (by omega)]
  have v4 : (wL (wL w l 2 (w.2.1 l 2 + 1)) l 4 (w.2.1 l 4 + 1)).2.1 l 4 = w.2.1 l 4 + 1 := by rw [vv, if_pos ⟨rfl, rfl⟩]
  have v5 : (wL (wL w l 2 (w.2.1 l 2 + 1)) l 4 (w.2.1 l 4 + 1)).2.1 l 5 = w.2.1 l 5 := by rw [vv, if_neg (by omega), if_neg (by omega)]
  unfold yL
  rw [v0, v1, v2, v3, v4, v5]
  refine ⟨(cc _ _ (by omega) (by omega) (by omega) (by omega)).trans l1, fun _ => (cc _ _ (by omega) (by omega) (by omega) (by omega)).trans (l2 (Or.inl c0)), by rw [mI_1, if_neg (by omega), mI_same], mI_same, (cc _ _ (by omega) (by omega) (by omega) (by omega)).trans l5, fun _ => ?_⟩
  rw [mI_1, if_neg (by omega), mI_1, if_neg (by omega), mI_1, if_neg (by omega), mI_same, if_neg (fun z => i_s1 (z.1.trans c2.symm))]
/-- an acknowledgement is due -/
theorem yW.du (a : yW w h) (l : Nat) : yW (wL w l 5 1) (mj_sI h 156 0 l 1) := by
  have vv : ∀ m t, (wL w l 5 1).2.1 m t = if m = l ∧ t = 5 then 1 else w.2.1 m t := fun m t => rfl
  have cc : ∀ g j, ¬ (g = 156 ∧ j = l) → (mj_sI h 156 0 l 1).1 g 0 j = h.1 g 0 j := fun g j z1 => by rw [mI_1, if_neg (by omega)]
  refine a.l1 l rfl rfl (fun m t q => by rw [vv, if_neg (fun z => q z.1)]) (fun g j z1 z2 => cc g j (by omega)) (fun hl => ?_)
  obtain ⟨l1, l2, l3, l4, l5, l6⟩ := a.2.1 l hl
  unfold yL
  rw [show (wL w l 5 1).2.1 l 0 = w.2.1 l 0 by rw [vv, if_neg (by omega)], show (wL w l 5 1).2.1 l 1 = w.2.1 l 1 by rw [vv, if_neg (by omega)], show (wL w l 5 1).2.1 l 2 = w.2.1 l 2 by rw [vv, if_neg (by omega)], show (wL w l 5 1).2.1 l 3 = w.2.1 l 3 by rw [vv, if_neg (by omega)], show (wL w l 5 1).2.1 l 4 = w.2.1 l 4 by rw [vv, if_neg (by omega)], show (wL w l 5 1).2.1 l 5 = 1 by rw [vv, if_pos ⟨rfl, rfl⟩]]
  exact ⟨(cc _ _ (by omega)).trans l1, fun z => (cc _ _ (by omega)).trans (l2 z), (cc _ _ (by omega)).trans l3, (cc _ _ (by omega)).trans l4, mI_same, fun z => (cc _ _ (by omega)).trans (l6 z)⟩
/-- it went -/
theorem yW.ak (a : yW w h) (l : Nat) (v : Int32) (c2 : w.2.1 l 2 = w.2.1 l 3 + 1) (c4 : w.2.1 l 2 < 4) : yW (wL (wL w l 5 0) l 3 (w.2.1 l 3 + 1)) (mj_sI (mj_sI (mj_sI h 156 0 l 0) 15 0 121 v) 157 0 l 1) := by
  have vv : ∀ m t, (wL (wL w l 5 0) l 3 (w.2.1 l 3 + 1)).2.1 m t = if m = l ∧ t = 3 then w.2.1 l 3 + 1 else if m = l ∧ t = 5 then 0 else w.2.1 m t := fun m t => rfl
  have cc : ∀ g j, ¬ (g = 157 ∧ j = l) → ¬ (g = 15 ∧ j = 121) → ¬ (g = 156 ∧ j = l) → (mj_sI (mj_sI (mj_sI h 156 0 l 0) 15 0 121 v) 157 0 l 1).1 g 0 j = h.1 g 0 j := fun g j z1 z2 z3 => by rw [mI_1, if_neg (by omega), mI_1, if_neg (by omega), mI_1, if_neg (by omega)]
  refine a.l1 l rfl rfl (fun m t q => by rw [vv, if_neg (fun z => q z.1), if_neg (fun z => q z.1)]) (fun g j z1 z2 => cc g j (by omega) (by omega) (by omega)) (fun hl => ?_)
  obtain ⟨l1, l2, l3, l4, l5, l6⟩ := a.2.1 l hl
  have v0 : (wL (wL w l 5 0) l 3 (w.2.1 l 3 + 1)).2.1 l 0 = w.2.1 l 0 := by rw [vv, if_neg (by omega), if_neg (by omega)]
  have v1 : (wL (wL w l 5 0) l 3 (w.2.1 l 3 + 1)).2.1 l 1 = w.2.1 l 1 := by rw [vv, if_neg (by omega), if_neg (by omega)]
  have v2 : (wL (wL w l 5 0) l 3 (w.2.1 l 3 + 1)).2.1 l 2 = w.2.1 l 2 := by rw [vv, if_neg (by omega), if_neg (by omega)]
  have v3 : (wL (wL w l 5 0) l 3 (w.2.1 l 3 + 1)).2.1 l 3 = w.2.1 l 3 + 1 := by rw [vv, if_pos ⟨rfl, rfl⟩]
  have v4 : (wL (wL w l 5 0) l 3 (w.2.1 l 3 + 1)).2.1 l 4 = w.2.1 l 4 := by rw [vv, if_neg (by omega), if_neg (by omega)]
  have v5 : (wL (wL w l 5 0) l 3 (w.2.1 l 3 + 1)).2.1 l 5 = 0 := by rw [vv, if_neg (by omega), if_pos ⟨rfl, rfl⟩]
  unfold yL
  rw [v0, v1, v2, v3, v4, v5]
  refine ⟨(cc _ _ (by omega) (by omega) (by omega)).trans l1, fun z => (cc _ _ (by omega) (by omega) (by omega)).trans (l2 z), (cc _ _ (by omega) (by omega) (by omega)).trans l3, (cc _ _ (by omega) (by omega) (by omega)).trans l4, by rw [mI_1, if_neg (by omega), mI_1, if_neg (by omega), mI_same], fun _ => ?_⟩
  rw [mI_same, if_pos ⟨c2, c4⟩]
/-- all went -/
theorem yW.cl (a : yW w h) (l : Nat) (c4 : w.2.1 l 4 = 0) (c5 : h.1 156 0 l = 0) : yW (wClr w l) (mj_sI (mj_sI h 152 0 l 0) 154 0 l 0) := by
  have vv : ∀ m t, (wClr w l).2.1 m t = if m = l then 0 else w.2.1 m t := fun m t => rfl
  have cc : ∀ g j, ¬ (g = 152 ∧ j = l) → ¬ (g = 154 ∧ j = l) → (mj_sI (mj_sI h 152 0 l 0) 154 0 l 0).1 g 0 j = h.1 g 0 j := fun g j z1 z2 => by rw [mI_1, if_neg (by omega), mI_1, if_neg (by omega)]
  refine a.l1 l rfl rfl (fun m t q => by rw [vv, if_neg q]) (fun g j z1 z2 => cc g j (by omega) (by omega)) (fun hl => ?_)
  obtain ⟨l1, l2, l3, l4, l5, l6⟩ := a.2.1 l hl
  unfold yL
  have vt : ∀ t, (wClr w l).2.1 l t = 0 := fun t => by rw [vv, if_pos rfl]
  rw [vt, vt, vt, vt, vt, vt]
  exact ⟨by rw [mI_1, if_neg (by omega), mI_same], fun z => (z.elim (fun y => (y rfl).elim) (fun y => absurd y (by decide))), mI_same, (cc _ _ (by omega) (by omega)).trans (l4.trans c4), (cc _ _ (by omega) (by omega)).trans c5, fun z => (z rfl).elim⟩
theorem y_yabs (e : h.1 138 0 p = -1) (hp : p < 6) : mj_R mg (d + 1) mq_326 (0, [(0, vR 15 0), (1, vI (nI p))], [], h) = some (.inl (none, h)) := by
  rw [q_326_0, if_pos (yp_in hp), nI_clamp (show p < 2 ^ 31 by omega), e, if_pos rfl, q_326_32]
theorem yW.pkt (a : yW w h) (v : Int32) : yW w (mj_sI h 15 0 121 v) := by
  refine ⟨⟨by rw [mI_1, if_neg (by omega)]; exact a.1.1, by rw [mI_1, if_neg (by omega)]; exact a.1.2.1, by rw [mI_1, if_neg (by omega)]; exact a.1.2.2⟩, fun l hl => ?_, fun x hx => by rw [mI_1, if_neg (by omega)]; exact a.2.2.1 x hx, fun x hx => by rw [mI_1, if_neg (by omega)]; exact a.2.2.2 x hx⟩
  obtain ⟨l1, l2, l3, l4, l5, l6⟩ := a.2.1 l hl
  exact ⟨by rw [mI_1, if_neg (by omega)]; exact l1, fun z => by rw [mI_1, if_neg (by omega)]; exact l2 z, by rw [mI_1, if_neg (by omega)]; exact l3, by rw [mI_1, if_neg (by omega)]; exact l4, by rw [mI_1, if_neg (by omega)]; exact l5, fun z => by rw [mI_1, if_neg (by omega)]; exact l6 z⟩
/-- a word is there: what the receiver's core does -/
theorem y_whole {l : Nat} {v : Int32} {b : Bool} {x2 : Int32} (a : YSy G S bt pk h) (hl : l < 12) (hp : p < 6) (hg : G.1 p = true) (st : stl0 (S.1 p)) (e : cCome (S.1 p) l v = some (b, s1)) (e2 : cSettle s1 = some s') (ev : h.1 153 0 l = v) :
    ∃ h', mj_xi (mj_R mg (d + 5) mq_322 (0, [(0, vR 15 0), (1, vI (nI p)), (2, vI (nI l))], [], h)) (fun r1 h1 => (if r1 = (-1) then mj_R mg (d + 6) mq_346 (217, [(4, vI r1), (3, vI (nI p)), (2, vI x2), (0, vR 15 0), (1, vI (nI l))], [], h1) else mj_xi (mj_R mg (d + 5) mq_322 (0, [(0, vR 15 0), (1, vI (nI p)), (2, vI ((r1 >>> ((1 : Int32) &&& 31)) - 3))], [], h1)) (fun r2 h2 => (if r2 = 0 then mj_R mg (d + 6) mq_346 (217, [(4, vI r1), (3, vI (nI p)), (2, vI x2), (0, vR 15 0), (1, vI (nI l))], [], h2) else mj_xv (mj_R mg (d + 5) mq_343 (0, [(0, vR 15 0), (1, vI (nI p)), (2, vI r1)], [], h2)) (fun h3 => mj_R mg (d + 6) mq_346 (273, [(4, vI r1), (3, vI (nI p)), (2, vI x2), (0, vR 15 0), (1, vI (nI l))], [], h3)))))) = some (.inl (some (vI 1), h')) ∧ YSy G (sC (sW S (if b = true then wL (wL S.2.1 l 4 0) l 5 1 else S.2.1)) p s') bt pk h' ∧ yFS h h' := by
  have R := a.rs hp hg
  have il := in_n hl (show 12 < 2 ^ 31 by omega)
  have h5 : nI l < (S.1 p).1 5 := Int32.lt_trans (nI_lt (a := l) (b := 15) (by omega) (by omega)) (a.1 p hp hg).2
  have jl : adM (S.1 p) (nI l) = some l := by unfold adM; rw [if_pos ⟨in_n (by omega) (by omega), h5⟩, nI_clamp (by omega)]
  rw [y_ld (d := d + 4) R.f hp jl, mj_xi_ret]
  unfold cCome at e
  by_cases q : (S.1 p).2.1 l = -1
  · rw [if_pos q] at e
    have e9 := Option.some.inj e
    cases e9
    obtain ⟨h2, q2, a2⟩ := y_yls (d := d + 2) R.f hp st.2 e2
    rw [if_pos q, q_346_217, if_pos q, q_346_273, q2, mj_xv_ret, if_neg (show ¬ false = true by decide)]
    obtain ⟨z1, z2⟩ := a.upW hp hg (R.up a2) (cSettle_5 e2)
    exact ⟨_, rfl, z1, z2⟩
  · rw [if_neg q] at e
    by_cases q2 : mj_in ((S.1 p).2.1 l) 8032
    · rw [if_pos q2] at e
      obtain ⟨u, j3, e⟩ := Option.bind_eq_some_iff.mp e
      rw [if_neg q, hf_sh q2, y_ld (d := d + 4) R.f hp j3, mj_xi_ret]
      by_cases q3 : (S.1 p).2.1 u = 0
      · rw [if_pos q3] at e
        obtain ⟨v1, j2, e⟩ := Option.bind_eq_some_iff.mp e
        obtain ⟨z, j4, e⟩ := Option.bind_eq_some_iff.mp e
        obtain ⟨t, t1, t2⟩ := Option.map_eq_some_iff.mp e
        cases t2
        obtain ⟨p4, a4⟩ := y_st (d := d + 4) (v := v) R.f hp j4
        obtain ⟨p5, a5⟩ := y_st (d := d + 4) (v := -1) (x := nI l) (n := l) a4 hp (by exact jl)
        have R5 := R.up a5
        have R6 : yS p h (sM (sM (S.1 p) z v) l (-1)) (wL (wL S.2.1 l 4 0) l 5 1) (mj_sI (mj_sI (mj_sI (mj_sI h 131 0 (4016 * p + z) v) 131 0 (4016 * p + l) (-1)) 155 0 l 0) 156 0 l (1 &&& 1)) := R5.wd (R5.2.1.tk l) (fun g i j cc => by rw [mI_1, if_neg (by omega), mI_1, if_neg (by omega)]) rfl
        obtain ⟨h7, p7, a7⟩ := y_rset (d := d + 2) (d2 := d + 2) R6.f hp t1 e2
        obtain ⟨h8, p8, a8⟩ := a7
        have e5 : s'.1 5 = (S.1 p).1 5 := by rw [cSettle_5 e2, cReady_5 t1]; rfl
        rw [if_pos q3, q_346_217, if_neg q, hf_sh q2, y_ld (d := d + 4) R.f hp j2, mj_xi_ret, if_pos il, nI_clamp (show l < 2 ^ 31 by omega), ev, p4, mj_xv_ret, p5, mj_xv_ret, if_pos il, if_pos il, p7, mj_xv_ret, q_346_273, p8, mj_xv_ret, if_pos rfl]
        obtain ⟨z1, z2⟩ := a.upW hp hg (R6.up a8) e5
        exact ⟨_, rfl, z1, z2⟩
      · rw [if_neg q3] at e
        obtain ⟨t, t1, t2⟩ := Option.map_eq_some_iff.mp e
        cases t2
        obtain ⟨h7, p7, a7⟩ := y_wset (d := d + 1) (d2 := d + 2) R.f hp st.2 t1 e2
        obtain ⟨h8, p8, a8⟩ := a7
        have e5 : s'.1 5 = (S.1 p).1 5 := by rw [cSettle_5 e2, cWake_5 t1]
        rw [if_neg q3, p7, mj_xv_ret, q_346_273, p8, mj_xv_ret, if_neg (show ¬ false = true by decide)]
        obtain ⟨z1, z2⟩ := a.upW hp hg (R.up a8) e5
        exact ⟨_, rfl, z1, z2⟩
    · rw [if_neg q2] at e; cases e
end
