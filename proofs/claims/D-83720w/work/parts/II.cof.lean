/-! the component begins -/
def cBeg (M e f : Nat) (s : Cr) : Cr := ((fun t => if t = 5 then nI M else if t = 14 ∨ t = 15 then 1 else if t = 12 then nI f else if t = 11 then nI e else if t = 8 ∨ t = 9 ∨ t = 10 ∨ t = 13 ∨ t = 16 ∨ t = 17 ∨ t = 18 ∨ t = 19 ∨ t = 22 then 0 else s.1 t), (fun x => if x < M then (if x ≤ 13 then -1 else 0) else s.2.1 x), [], [])
/-- bytes, words, entry, first W of each processor -/
abbrev Bg := Nat → Nat × Nat × Nat × Nat
def wBeg (w : Wd) : Wd := ((fun t => if t = 1 ∨ t = 2 ∨ t = 4 then 0 else w.1 t), (fun _ _ => 0), w.2.2)
def sBeg (G : PgS) (B : Bg) (S : Sy) : Sy := ((fun p => if G.1 p = true then cBeg (16 + (B p).2.1) (B p).2.2.1 (B p).2.2.2 (S.1 p) else S.1 p), wBeg S.2.1, 0, 0)
def okBg (G : PgS) (B : Bg) : Prop := ∀ p, p < 6 → G.1 p = true → (B p).1 ≤ 6000 ∧ (B p).2.1 ≤ 4000 ∧ (B p).2.2.1 < 6000 ∧ 1 ≤ (B p).2.2.2 ∧ (B p).2.2.2 ≤ 16 + (B p).2.1
def RB (G : PgS) (B : Bg) (h : mj_H) : Prop := ∀ p, p < 6 → G.1 p = true → h.1 13 p 3 = nI (B p).1 ∧ h.1 13 p 5 = nI (B p).2.1 ∧ h.1 13 p 4 = nI (B p).2.2.1 ∧ h.1 13 p 6 = nI (B p).2.2.2
def mB (j : Nat) (s : Cr) : Cr := (s.1, (fun x => if x < j then (if x ≤ 13 then -1 else 0) else s.2.1 x), s.2.2)
section
variable {k d : Nat} {h0 h h' : mj_H} {s s' : Cr} {w w' : Wd} {G : PgS} {B : Bg} {S S' : Sy}
theorem mB_s (j : Nat) : sM (mB j s) j (if j ≤ 13 then -1 else 0) = mB (j + 1) s := by
  refine Prod.ext rfl (Prod.ext (funext fun t => ?_) rfl)
  show (if t = j then (if j ≤ 13 then (-1 : Int32) else 0) else if t < j then (if t ≤ 13 then -1 else 0) else s.2.1 t) = if t < j + 1 then (if t ≤ 13 then -1 else 0) else s.2.1 t
  by_cases e : t = j
  · rw [if_pos e, if_pos (show t < j + 1 by omega), e]
  · rw [if_neg e]
    by_cases e2 : t < j
    · rw [if_pos e2, if_pos (show t < j + 1 by omega)]
    · rw [if_neg e2, if_neg (show ¬ t < j + 1 by omega)]
theorem k_bm {W : Nat} (hW : W ≤ 4000) : ∀ (n j : Nat) (h : mj_H), j + n = 16 + W → h.1 13 k 5 = nI W → RF k h0 (mB j s) h → ∃ h', mj_R mg (d + 1) mq_168 (2, [(1, vI (nI j)), (0, vR 13 k)], [], h) = mj_R mg (d + 1) mq_168 (2, [(1, vI (nI (16 + W))), (0, vR 13 k)], [], h') ∧ RF k h0 (mB (16 + W) s) h' := by
  intro n
  induction n with
  | zero =>
    intro j h hj hw a
    have : j = 16 + W := by omega
    subst this
    exact ⟨h, rfl, a⟩
  | succ n ih =>
    intro j h hj hw a
    have e16 : (16 : Int32) + nI W = nI (16 + W) := nI_add 16 W
    have B := a.m j (if j ≤ 13 then -1 else 0)
    rw [mB_s] at B
    have kw : (mj_sI h 70 k j (if j ≤ 13 then -1 else 0)).1 13 k 5 = nI W := by rw [mI_1, if_neg (by omega)]; exact hw
    obtain ⟨h2, q2, a2⟩ := ih (j + 1) _ (by omega) kw B
    refine ⟨h2, ?_, a2⟩
    rw [q_168_2, hw, e16, if_neg (nI_ge (by omega) (by omega))]
    by_cases c : j ≤ 13
    · rw [if_pos c] at q2
      rw [if_neg (show ¬ (13 : Int32) < nI j from nI_nlt (a := 13) (b := j) c (by omega)), q_168_29, if_pos (in_n (by omega) (by omega)), nI_clamp (by omega), ← nI_succ]
      exact q2
    · rw [if_neg c] at q2
      rw [if_pos (show (13 : Int32) < nI j from nI_lt (a := 13) (b := j) (by omega) (by omega)), q_168_29, if_pos (in_n (by omega) (by omega)), nI_clamp (by omega), ← nI_succ]
      exact q2
theorem k_lcl {r : Nat} : ∃ h', mj_R mg d mq_192 (0, [(0, vR 14 r)], [], h) = some (.inl (none, h')) ∧ RQ r [] h' ∧ (∀ g i j, ¬ ((g = 14 ∨ g = 71) ∧ i = r) → h'.1 g i j = h.1 g i j) ∧ h'.2 = h.2 := by
  rw [q_192_0]
  exact ⟨_, rfl, ⟨0, by omega, by rw [mI_1, if_neg (by omega), mI_same]; rfl, by rw [mI_same]; rfl, by show 0 ≤ 1100; omega, fun i n hi => by cases hi⟩, fun g i j c => by rw [mI_1, if_neg (by omega), mI_1, if_neg (by omega)], rfl⟩
theorem k_beg {W E F : Nat} (hW : W ≤ 4000) (hF1 : 1 ≤ F) (hF2 : F ≤ 16 + W) (a : RF k h0 s h) (hw : h.1 13 k 5 = nI W) (hf : h.1 13 k 6 = nI F) (he : h.1 13 k 4 = nI E) : cDo k h0 (cBeg (16 + W) E F s) (mj_R mg (d + 1) mq_168 (0, [(0, vR 13 k)], [], h)) := by
  have e16 : (16 : Int32) + nI W = nI (16 + W) := nI_add 16 W
  have a0 : RF k h0 (mB 0 s) h := a
  obtain ⟨h1, q1, a1⟩ := k_bm (d := d) hW (16 + W) 0 h (Nat.zero_add _) hw a0
  have q1 : mj_R mg (d + 1) mq_168 (2, [(1, vI 0), (0, vR 13 k)], [], h) = _ := q1
  have fx : ∀ j, j ≤ 7 → h1.1 13 k j = h0.1 13 k j := fun j hj => a1.2.1 13 k j (by omega)
  have fx0 : ∀ j, j ≤ 7 → h.1 13 k j = h0.1 13 k j := fun j hj => a.2.1 13 k j (by omega)
  obtain ⟨h2, q2, r2, f2, g2⟩ := k_lcl (d := d) (h := h1) (r := 2 * k)
  have a2 := a1.q1 r2 f2 g2
  obtain ⟨h3, q3, r3, f3, g3⟩ := k_lcl (d := d) (h := h2) (r := 2 * k + 1)
  have a3 := a2.q2 r3 f3 g3
  have a4 := (((a3.r 22 0 (by omega) (by omega)).r 17 0 (by omega) (by omega)).r 18 0 (by omega) (by omega)).r 19 0 (by omega) (by omega)
  obtain ⟨T, hT⟩ : ∃ T, T = sR (sR (sR (sR (sQ (sQ (mB (16 + W) s) [] (mB (16 + W) s).2.2.2) (sQ (mB (16 + W) s) [] (mB (16 + W) s).2.2.2).2.2.1 []) 22 0) 17 0) 18 0) 19 0 := ⟨_, rfl⟩
  obtain ⟨h4, eh4⟩ : ∃ h4, h4 = mj_sI (mj_sI (mj_sI (mj_sI h3 13 k 22 0) 13 k 17 0) 13 k 18 0) 13 k 19 0 := ⟨_, rfl⟩
  rw [← hT, ← eh4] at a4
  have k6 : h4.1 13 k 6 = nI F := by rw [a4.2.1 13 k 6 (by omega), ← fx0 6 (by omega)]; exact hf
  have a5 : RF k h0 (sR T 5 (nI (16 + W))) h4 := ⟨⟨fun j j1 j2 => by show _ = if j = 5 then _ else _; rw [if_neg (by omega)]; exact a4.1.1 j j1 j2, a4.1.2.1, a4.1.2.2.1, a4.1.2.2.2⟩, a4.2⟩
  have eF : nI F - 1 = nI (F - 1) := nI_sub (a := F) (b := 1) hF1
  have ad : adM (sR T 5 (nI (16 + W))) (nI F - 1) = some (F - 1) := by
    unfold adM
    rw [eF, if_pos ⟨in_n (by omega) (by omega), nI_lt (by omega) (by omega)⟩, nI_clamp (by omega)]
  have cs : cStart (sR T 5 (nI (16 + W))) F 1 = some (sR (sR (sR (sR (sR (sR (sR (sR (sR (sR T 5 (nI (16 + W))) 14 1) 12 (nI F)) 15 1) 16 0) 8 0) 9 0) 10 0) 13 0) 11 ((sR T 5 (nI (16 + W))).2.1 (F - 1))) := by
    unfold cStart
    rw [ad]
    rfl
  obtain ⟨h5, q5, a6⟩ := k_start (d := d) a5 (Or.inr rfl) cs
  have k4 : h5.1 13 k 4 = nI E := by rw [a6.2.1 13 k 4 (by omega), ← fx0 4 (by omega)]; exact he
  have hw1 : h1.1 13 k 5 = nI W := by rw [fx 5 (by omega), ← fx0 5 (by omega)]; exact hw
  rw [q_168_0, q1, q_168_2, hw1, e16, if_pos (Int32.le_refl _), q2, mj_xv_ret, q3, mj_xv_ret, ← eh4, k6, q5, mj_xv_ret, k4]
  have b := a6.r 11 (nI E) (by omega) (by omega)
  refine ⟨_, rfl, ?_⟩
  have es : sR (sR (sR (sR (sR (sR (sR (sR (sR (sR (sR T 5 (nI (16 + W))) 14 1) 12 (nI F)) 15 1) 16 0) 8 0) 9 0) 10 0) 13 0) 11 ((sR T 5 (nI (16 + W))).2.1 (F - 1))) 11 (nI E) = cBeg (16 + W) E F s := by
    subst hT
    refine Prod.ext (funext fun t => ?_) rfl
    by_cases t5 : t = 5
    · subst t5; rfl
    · by_cases t8 : t = 8 ∨ t = 9 ∨ t = 10 ∨ t = 11 ∨ t = 12 ∨ t = 13 ∨ t = 14 ∨ t = 15 ∨ t = 16 ∨ t = 17 ∨ t = 18 ∨ t = 19 ∨ t = 22
      · rcases t8 with rfl | rfl | rfl | rfl | rfl | rfl | rfl | rfl | rfl | rfl | rfl | rfl | rfl <;> rfl
      · have r : (cBeg (16 + W) E F s).1 t = s.1 t := by
          show (if t = 5 then nI (16 + W) else if t = 14 ∨ t = 15 then 1 else if t = 12 then nI F else if t = 11 then nI E else if t = 8 ∨ t = 9 ∨ t = 10 ∨ t = 13 ∨ t = 16 ∨ t = 17 ∨ t = 18 ∨ t = 19 ∨ t = 22 then 0 else s.1 t) = _
          rw [if_neg t5, if_neg (by omega), if_neg (by omega), if_neg (by omega), if_neg (by omega)]
        rw [r]
        show (if t = 11 then _ else if t = 11 then _ else if t = 13 then _ else if t = 10 then _ else if t = 9 then _ else if t = 8 then _ else if t = 16 then _ else if t = 15 then _ else if t = 12 then _ else if t = 14 then _ else if t = 5 then _ else if t = 19 then _ else if t = 18 then _ else if t = 17 then _ else if t = 22 then _ else s.1 t) = s.1 t
        rw [if_neg (by omega), if_neg (by omega), if_neg (by omega), if_neg (by omega), if_neg (by omega), if_neg (by omega), if_neg (by omega), if_neg (by omega), if_neg (by omega), if_neg (by omega), if_neg (by omega), if_neg (by omega), if_neg (by omega), if_neg (by omega), if_neg (by omega)]
  rw [es] at b
  exact b
/-- links are cleared -/
theorem k_bgl : ∀ (n l : Nat) (h : mj_H) (w : Wd), l + n = 12 → RW w h → ∃ h' w', mj_R mg (d + 1) mq_19 (40, [(1, vI (nI l)), (0, vR 2 0)], [], h) = mj_R mg (d + 1) mq_19 (63, [(1, vI 0), (0, vR 2 0)], [], h') ∧ RW w' h' ∧ w'.1 = w.1 ∧ w'.2.2 = w.2.2 ∧ (∀ a t, l ≤ a → a < 12 → w'.2.1 a t = 0) ∧ (∀ a t, a < l → w'.2.1 a t = w.2.1 a t) ∧ (∀ g i j, ¬ g = 12 → h'.1 g i j = h.1 g i j) ∧ h'.2 = h.2 := by
  intro n
  induction n with
  | zero =>
    intro l h w hl a
    rw [q_19_40, if_pos (show (12 : Int32) ≤ nI l from nI_le (a := 12) (b := l) (by omega) (by omega))]
    exact ⟨h, w, rfl, a, rfl, rfl, fun a t h1 h2 => by omega, fun _ _ _ => rfl, fun _ _ _ _ => rfl, rfl⟩
  | succ n ih =>
    intro l h w hl a
    have il := in_n (show l < 12 by omega) (show 12 < 2 ^ 31 by omega)
    obtain ⟨h1, q1, r1, f1, g1⟩ := k_clr (d := d) (l := l) a
    obtain ⟨h2, w2, q2, r2, e1, e2, e3, e4, f2, g2⟩ := ih (l + 1) h1 (wClr w l) (by omega) r1
    refine ⟨h2, w2, ?_, r2, e1, e2, fun a t h1 h2 => ?_, fun a t h1 => ?_, fun g i j c => (f2 g i j c).trans (f1 g i j (by omega)), g2.trans g1⟩
    · rw [q_19_40, if_neg (show ¬ (12 : Int32) ≤ nI l from nI_ge (a := l) (b := 12) (by omega) (by omega)), if_pos il, nI_clamp (by omega), q1, mj_xv_ret, ← nI_succ]
      exact q2
    · by_cases ea : a = l
      · rw [e4 a t (by omega), ea]; exact if_pos rfl
      · exact e3 a t (by omega) h2
    · rw [e4 a t (by omega)]; exact if_neg (by omega)
/-- cores begin -/
theorem k_bgc (ok : okBg G B) : ∀ (n p : Nat) (h : mj_H) (C : Nat → Cr), p + n = 6 → (∀ q, q < 6 → RC q (C q) h) → RG G h → RB G B h → ∃ h', mj_R mg (d + 2) mq_19 (63, [(1, vI (nI p)), (0, vR 2 0)], [], h) = some (.inl (none, h')) ∧ (∀ q, q < 6 → RC q (if p ≤ q ∧ G.1 q = true then cBeg (16 + (B q).2.1) (B q).2.2.1 (B q).2.2.2 (C q) else C q) h') ∧ (∀ g i j, ¬ ((g = 13 ∧ 8 ≤ j ∧ j ≤ 27) ∨ g = 70 ∨ g = 14 ∨ g = 71) → h'.1 g i j = h.1 g i j) ∧ h'.2 = h.2 := by
  intro n
  induction n with
  | zero =>
    intro p h C hp a g b
    rw [q_19_63, if_pos (show (6 : Int32) ≤ nI p from nI_le (a := 6) (b := p) (by omega) (by omega))]
    exact ⟨h, rfl, fun q hq => by rw [if_neg (by omega)]; exact a q hq, fun _ _ _ _ => rfl, rfl⟩
  | succ n ih =>
    intro p h C hp a g b
    have hp6 : p < 6 := by omega
    have i6 := in_n hp6 (show 6 < 2 ^ 31 by omega)
    rw [q_19_63, if_neg (show ¬ (6 : Int32) ≤ nI p from nI_ge (a := p) (b := 6) (by omega) (by omega)), if_pos i6, nI_clamp (by omega)]
    cases hg : G.1 p with
    | false =>
      obtain ⟨h2, q2, r2, f2, g2⟩ := ih (p + 1) h C (by omega) a g b
      refine ⟨h2, ?_, fun q hq => ?_, f2, g2⟩
      · rw [if_pos ((g.1 p hp6).mpr hg), q_19_91, ← nI_succ]; exact q2
      · have := r2 q hq
        by_cases e : q = p
        · rw [if_neg (by omega)] at this
          rw [if_neg (fun z => by rw [e, hg] at z; cases z.2)]
          exact this
        · by_cases e2 : p + 1 ≤ q ∧ G.1 q = true
          · rw [if_pos e2] at this
            rw [if_pos ⟨by omega, e2.2⟩]
            exact this
          · rw [if_neg e2] at this
            rw [if_neg (fun z => e2 ⟨by omega, z.2⟩)]
            exact this
    | true =>
      have np : ¬ h.1 46 0 p = -1 := fun z => by rw [(g.1 p hp6).mp z] at hg; cases hg
      obtain ⟨o1, o2, o3, o4, o5⟩ := ok p hp6 hg
      obtain ⟨b1, b2, b3, b4⟩ := b p hp6 hg
      obtain ⟨h1, q1, a1⟩ := k_beg (d := d) (k := p) (h0 := h) o2 o4 o5 ⟨a p hp6, fC.rf _ _⟩ b2 b4 b3
      have F : fSy h h1 := ⟨fun g i j c => a1.2.1 g i j (by omega), a1.2.2⟩
      obtain ⟨h2, q2, r2, f2, g2⟩ := ih (p + 1) h1 (fun q => if q = p then cBeg (16 + (B p).2.1) (B p).2.2.1 (B p).2.2.2 (C p) else C q) (by omega) (fun q hq => by
        show RC q (if q = p then _ else _) h1
        by_cases e : q = p
        · rw [if_pos e, e]; exact a1.1
        · rw [if_neg e]; exact (a q hq).mv (fun g i j c => a1.2.1 g i j (by omega))) (g.mv F) (fun q hq hgq => by
        rw [a1.2.1 13 q 3 (by omega), a1.2.1 13 q 5 (by omega), a1.2.1 13 q 4 (by omega), a1.2.1 13 q 6 (by omega)]
        exact b q hq hgq)
      refine ⟨h2, ?_, fun q hq => ?_, fun g i j c => (f2 g i j c).trans (a1.2.1 g i j (by omega)), g2.trans a1.2.2⟩
      · rw [if_neg np, if_pos i6, q1, mj_xv_ret, q_19_91, ← nI_succ]; exact q2
      · have := r2 q hq
        by_cases e : q = p
        · subst e
          rw [if_neg (by omega), if_pos rfl] at this
          rw [if_pos ⟨Nat.le_refl _, hg⟩]
          exact this
        · rw [if_neg e] at this
          by_cases e2 : p + 1 ≤ q ∧ G.1 q = true
          · rw [if_pos e2] at this
            rw [if_pos ⟨by omega, e2.2⟩]
            exact this
          · rw [if_neg e2] at this
            rw [if_neg (fun z => e2 ⟨by omega, z.2⟩)]
            exact this
/-- all begins -/
theorem k_begin (ok : okBg G B) (a : RSy G S h) (g : RG G h) (b : RB G B h) : ∃ h', mj_R mg (d + 2) mq_19 (0, [(0, vR 2 0)], [], h) = some (.inl (none, h')) ∧ RSy G (sBeg G B S) h' ∧ fSy h h' := by
  obtain ⟨h1, eh1⟩ : ∃ h1, h1 = mj_sI (mj_sI (mj_sI (mj_sI (mj_sI h 11 0 1 0) 11 0 2 0) 11 0 4 0) 2 0 14 0) 2 0 15 0 := ⟨_, rfl⟩
  have c1 : ∀ g i j, ¬ (i = 0 ∧ ((g = 11 ∧ (j = 1 ∨ j = 2 ∨ j = 4)) ∨ (g = 2 ∧ (j = 14 ∨ j = 15)))) → h1.1 g i j = h.1 g i j := fun g i j c => by rw [eh1, mI_1, if_neg (by omega), mI_1, if_neg (by omega), mI_1, if_neg (by omega), mI_1, if_neg (by omega), mI_1, if_neg (by omega)]
  have g1 : h1.2 = h.2 := by rw [eh1]; rfl
  have R1 : RW ((fun t => if t = 1 ∨ t = 2 ∨ t = 4 then 0 else S.2.1.1 t), S.2.1.2) h1 := by
    obtain ⟨b1, b2, b3, b4⟩ := a.2.1
    refine ⟨fun t ht => ?_, fun m t hl ht => (c1 _ _ _ (by omega)).trans (b2 m t hl ht), fun x hx => (c1 _ _ _ (by omega)).trans (b3 x hx), fun x hx => (c1 _ _ _ (by omega)).trans (b4 x hx)⟩
    show _ = if t = 1 ∨ t = 2 ∨ t = 4 then _ else _
    rw [if_pos ht, eh1, mI_1, if_neg (by omega), mI_1, if_neg (by omega)]
    rcases ht with rfl | rfl | rfl
    · rw [mI_1, if_neg (by omega), mI_1, if_neg (by omega), mI_same]
    · rw [mI_1, if_neg (by omega), mI_same]
    · rw [mI_same]
  obtain ⟨h2, w2, q2, r2, e1, e2, e3, e4, f2, g2⟩ := k_bgl (d := d + 1) 12 0 h1 _ rfl R1
  have q2 : mj_R mg (d + 2) mq_19 (40, [(1, vI 0), (0, vR 2 0)], [], h1) = _ := q2
  have F2 : fSy h h2 := ⟨fun g i j c => (f2 g i j (by omega)).trans (c1 g i j (by omega)), g2.trans g1⟩
  obtain ⟨h3, q3, r3, f3, g3⟩ := k_bgc (d := d) ok 6 0 h2 S.1 rfl (fun q hq => (a.1 q hq).mv (fun g i j c => (f2 g i j (by omega)).trans (c1 g i j (by omega)))) (g.mv F2) (fun q hq hgq => by
    rw [F2.1 13 q 3 (by omega), F2.1 13 q 5 (by omega), F2.1 13 q 4 (by omega), F2.1 13 q 6 (by omega)]
    exact b q hq hgq)
  have q3 : mj_R mg (d + 2) mq_19 (63, [(1, vI 0), (0, vR 2 0)], [], h2) = _ := q3
  refine ⟨h3, by rw [q_19_0, k_must g, mj_xv_ret, ← eh1, q2, q3], ⟨fun q hq => ?_, ?_, ?_, ?_⟩, F2.tr ⟨fun g i j c => f3 g i j (by omega), g3⟩⟩
  · have := r3 q hq
    show RC q (if G.1 q = true then _ else _) h3
    by_cases e : G.1 q = true
    · rw [if_pos ⟨Nat.zero_le _, e⟩] at this
      rw [if_pos e]; exact this
    · rw [if_neg (fun z => e z.2)] at this
      rw [if_neg e]; exact this
  · obtain ⟨b1, b2, b3, b4⟩ := r2
    refine ⟨fun t ht => ?_, fun m t hl ht => ?_, fun x hx => ?_, fun x hx => ?_⟩
    · rw [f3 _ _ _ (by omega), b1 t ht, e1]; rfl
    · rw [f3 _ _ _ (by omega), b2 m t hl ht, e3 m t (by omega) hl]; rfl
    · rw [f3 _ _ _ (by omega), b3 x hx, e2]; rfl
    · rw [f3 _ _ _ (by omega), b4 x hx, e2]; rfl
  · rw [f3 _ _ _ (by omega), f2 _ _ _ (by omega), eh1, mI_1, if_neg (by omega), mI_same]; rfl
  · rw [f3 _ _ _ (by omega), f2 _ _ _ (by omega), eh1, mI_same]; rfl
end
