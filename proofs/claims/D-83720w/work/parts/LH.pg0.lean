/-! what is known of a program that was read -/
def unW (sy : List Sym) (vis : List Nat) : Prop := ∀ s ∈ vis, ∀ s' ∈ vis, srO sy s = 1 → srO sy s' = 1 → szO sy s = szO sy s' → s = s'
def pgI (p : Pg) : Prop := (∀ syF, sX p.2.2.2.2.1 syF → ∀ (k : Nat) (B : Tm), p.2.1[k]? = some B → ∃ r : Nat × Nat, bdy syF p.1 0 k B r ∧ r.2 ≤ 200) ∧ (∀ l, l < p.2.2.1.length → (p.2.2.1.getD l (0, 0)).1 ≠ (p.2.2.1.getD l (0, 0)).2 ∧ (p.2.2.1.getD l (0, 0)).1 < 6 ∧ (p.2.2.1.getD l (0, 0)).2 < 6) ∧ unW p.2.2.2.2.1 p.2.2.2.2.2.1 ∧
  (∀ syF, sX p.2.2.2.2.1 syF → ∀ (k : Nat) (x : Nat × Tm), p.2.2.2.1.find? (fun x => x.1 == k) = some x → rot syF p.1 p.2.2.1.length x.2) ∧ ∀ x ∈ p.2.2.2.1, x.1 ≤ 5
theorem pcs_lk : ∀ (m : Nat) (p q : Pg), pcsS m p = .inr q → q.2.2.1 = p.2.2.1 := by
  intro m
  induction m with
  | zero => intro p q h; cases h
  | succ m ih =>
    intro p q h
    obtain ⟨pa, bs, lk, rt, sy, vis, L⟩ := p
    rw [pcsS] at h
    split at h
    · cases L with
      | nil => cases h
      | cons l L2 =>
        obtain ⟨u, i, ts⟩ := l
        dsimp only at h
        obtain ⟨y, h1, h⟩ := bnd_ok h
        rw [ih y q h]
        rw [prcS] at h1
        obtain ⟨sy2, k1, h1⟩ := bnd_ok h1
        obtain ⟨x, k2, h1⟩ := bnd_ok h1
        obtain ⟨L3, k3, h1⟩ := bnd_ok h1
        have e := Sum.inr.inj h1
        subst e
        rfl
    · have e := Sum.inr.inj h
      subst e
      rfl
theorem glo_0 {np : Nat} {sy : List Sym} {vis : List Nat} (h : ∀ s ∈ vis, glo np 0 sy s) : unW sy vis := by
  intro s hs s' hs' w w' e
  have key : ∀ t, glo np 0 sy t → srO sy t = 1 → t = 200 ∨ t = 201 := by
    rintro t (g | g | ⟨g1, g2⟩) ht
    · exact Or.inl g
    · exact Or.inr g
    · omega
  have z0 : szO sy 200 = 12 := rfl
  have z1 : szO sy 201 = 13 := rfl
  rcases key s (h s hs) w with rfl | rfl
  · rcases key s' (h s' hs') w' with rfl | rfl
    · rfl
    · omega
  · rcases key s' (h s' hs') w' with rfl | rfl
    · omega
    · rfl
theorem unW.ex {sy sy2 : List Sym} {vis : List Nat} (h : unW sy vis) (hv : ∀ s ∈ vis, inSy sy s) (hl : sy.length ≤ 200) (x : sX sy sy2) : unW sy2 vis := by
  intro s hs s' hs' w w' e
  have e1 := syO_ex x (hv s hs) hl
  have e2 := syO_ex x (hv s' hs') hl
  unfold srO at w w'
  unfold szO at e
  rw [e1] at w e
  rw [e2] at w' e
  exact h s hs s' hs' w w' e
theorem pg_pcs {m : Nat} {L : List PL} {p : Pg} (W : wfG p) (hr : p.2.2.2.1 = []) (h : pcsS m ([], [], [], [], [], [201, 200], L) = .inr p) : pgI p := by
  have hlk := pcs_lk m _ p h
  obtain ⟨pa, bs, lk, rt, sy, vis, L1⟩ := p
  dsimp only at hlk hr
  subst hlk
  subst hr
  obtain ⟨i1, i2, i3, i4, i5, sg, i6, i7⟩ := W
  dsimp only at i1 i2 i3 i4 i5 i6 i7
  refine ⟨fun syF xF k B hB => ⟨sg (2 * k), (i7 syF xF).1 k B hB, ?_⟩, fun l hl => absurd hl (Nat.not_lt_zero _), glo_0 i2, fun syF xF k x hx => (by cases hx), fun x hx => (by cases hx)⟩
  have := i6.1 (2 * k) (Or.inl ⟨k, rfl, gt_lt hB⟩)
  have := i1.1
  omega
theorem wir_ok {has : Nat} {sy : List Sym} {ts : List Tok} {z : List Sym × Nat × Nat} (h : wirS has sy ts = .inr z) : z.2.1 ≠ z.2.2 ∧ z.2.1 < 6 ∧ z.2.2 < 6 := by
  rw [wirS] at h
  obtain ⟨n, h1, h⟩ := bnd_ok h
  obtain ⟨r, h2, h⟩ := bnd_ok h
  obtain ⟨a, h3, h⟩ := bnd_ok h
  obtain ⟨r2, h4, h⟩ := bnd_ok h
  obtain ⟨_, h5, h⟩ := bnd_ok h
  obtain ⟨b, h6, h⟩ := bnd_ok h
  obtain ⟨r3, h7, h⟩ := bnd_ok h
  obtain ⟨_, h8, h⟩ := bnd_ok h
  have e := Sum.inr.inj h
  subst e
  have w1 := numS_ok h3
  have w2 := numS_ok h6
  have c := chkS_ok h5
  refine ⟨fun z => ?_, by have := w1.2.2.2; dsimp only; omega, by have := w2.2.2.2; dsimp only; omega⟩
  dsimp only at z
  rw [beq_iff_eq.mpr w2.1, ← w2.2.1, ← z] at c
  simp at c
theorem pg_wrs : ∀ (m : Nat) (p q : Pg), wfG p → pgI p → p.2.2.2.1 = [] → wrsS m p = .inr q → pgI q := by
  intro m
  induction m with
  | zero => intro p q _ _ _ h; cases h
  | succ m ih =>
    intro p q W I hr h
    obtain ⟨pa, bs, lk, rt, sy, vis, L⟩ := p
    have hr' : rt = [] := hr
    subst hr'
    rw [wrsS] at h
    split at h
    · cases L with
      | nil => cases h
      | cons l L2 =>
        obtain ⟨u, i, ts⟩ := l
        dsimp only at h
        obtain ⟨z, h1, h⟩ := bnd_ok h
        obtain ⟨c1, c2, cs, c3⟩ := wf_wir W.1.1 (lft_ok h1)
        have c4 := wir_ok (lft_ok h1)
        refine ih _ q (wf_lnk W c1 c2 c3) ?_ rfl h
        obtain ⟨j1, j2, j3, j4, j5⟩ := I
        dsimp only at j1 j2 j3 j4 j5
        have xx : sX sy z.1 := ⟨_, c3⟩
        have l1 : z.1.length = sy.length + 1 := by rw [c3]; simp
        have e0 : syO z.1 sy.length = (cs, 1, lk.length) := by rw [c3]; exact syO_app c2
        refine ⟨fun syF xF k B hB => j1 syF (xx.tr xF) k B hB, fun l hl => ?_, ?_, fun syF xF k x hx => (by cases hx), fun x hx => (by cases hx)⟩
        · show ((lk ++ [z.2]).getD l (0, 0)).1 ≠ ((lk ++ [z.2]).getD l (0, 0)).2 ∧ _
          have hl' : l < (lk ++ [z.2]).length := hl
          rw [List.length_append] at hl'
          have hl2 : l < lk.length + 1 := hl'
          by_cases e : l = lk.length
          · have e3 : (lk ++ [z.2]).getD l (0, 0) = z.2 := by
              rw [e, List.getD_eq_getElem?_getD, List.getElem?_append_right (Nat.le_refl _), Nat.sub_self]; rfl
            rw [e3]
            exact c4
          · have e3 : (lk ++ [z.2]).getD l (0, 0) = lk.getD l (0, 0) := by
              rw [List.getD_eq_getElem?_getD, List.getElem?_append_left (by omega), ← List.getD_eq_getElem?_getD]
            rw [e3]
            exact j2 l (by omega)
        · show unW z.1 (sy.length :: vis)
          have hu := j3.ex W.1.2.1 W.1.1 xx
          have g : ∀ s ∈ vis, srO z.1 s = 1 → szO z.1 s ≠ lk.length := by
            intro s hs ws
            have e1 : syO z.1 s = syO sy s := syO_ex xx (W.1.2.1 s hs) W.1.1
            have hl12 : lk.length ≤ 12 := W.2.2.2.2.1
            unfold srO at ws
            unfold szO
            rw [e1] at ws ⊢
            rcases W.2.1 s hs with rfl | rfl | ⟨g1, g2⟩
            · show (12 : Nat) ≠ lk.length; omega
            · show (13 : Nat) ≠ lk.length; omega
            · have g2' : ((syO sy s).2.1 = 0 ∧ _) ∨ ((syO sy s).2.1 = 1 ∧ (syO sy s).2.2 < lk.length) := g2
              omega
          have z0 : szO z.1 sy.length = lk.length := by rw [szO, e0]
          intro s hs s' hs' w w' e
          rcases List.mem_cons.mp hs with rfl | hs
          · rcases List.mem_cons.mp hs' with rfl | hs'
            · rfl
            · exact (g s' hs' w' (e ▸ z0)).elim
          · rcases List.mem_cons.mp hs' with rfl | hs'
            · exact (g s hs w (e.trans z0)).elim
            · exact hu s hs s' hs' w w' e
    · have e := Sum.inr.inj h
      subst e
      exact I
theorem pg_rt {k lv : Nat} {pa : List (List Nat)} {bs : List Tm} {lk : List (Nat × Nat)} {rt : List (Nat × Tm)} {sy : List Sym} {vis : List Nat} {L0 L1 L2 : List PL} {x : Tm × List Sym × List PL} (W : wfG (pa, bs, lk, rt, sy, vis, L0)) (I : pgI (pa, bs, lk, rt, sy, vis, L0)) (hk : rt.find? (fun x => x.1 == k) = none) (hk5 : k ≤ 5) (h : proS pa fuel lv vis sy L1 = .inr x) : pgI (pa, bs, lk, rt ++ [(k, x.1)], x.2.1, vis, L2) := by
  obtain ⟨i1, i2, i3, i4, i5, sg, i6, i7⟩ := W
  dsimp only at i1 i2 i3 i4 i5 i6 i7
  obtain ⟨d1, d2, d3, d4⟩ := wf_pro pa fuel _ _ _ _ _ i1 h
  obtain ⟨j1, j2, j3, j4, j5⟩ := I
  dsimp only at j1 j2 j3 j4 j5
  refine ⟨fun syF xF => j1 syF (d1.tr xF), j2, j3.ex i1.2.1 i1.1 d1, ?_, ?_⟩
  · intro syF xF k' y hy
    show rot syF pa lk.length y.2
    have hy' : (rt ++ [(k, x.1)]).find? (fun x => x.1 == k') = some y := hy
    rw [List.find?_append] at hy'
    by_cases e : k' = k
    · subst e
      rw [hk] at hy'
      simp only [Option.none_or, List.find?_cons, beq_self_eq_true] at hy'
      have ey := Option.some.inj hy'
      subst ey
      exact ⟨vis, 17 - lv, sy.length, x.2.1.length, fun s hs => ⟨(i2 s hs).ex (d1.tr xF) i1.1 (Nat.le_refl _) (Nat.le_refl _), by have := i1.2.1 s hs; unfold inSy at this; omega⟩, j3.ex i1.2.1 i1.1 (d1.tr xF), d2, by omega, d4 syF xF⟩
    · have e2 : ([(k, x.1)] : List (Nat × Tm)).find? (fun x => x.1 == k') = none := by simp; omega
      rw [e2, Option.or_none] at hy'
      exact j4 syF (d1.tr xF) k' y hy'
  · intro y hy
    rcases List.mem_append.mp (show y ∈ rt ++ [(k, x.1)] from hy) with q | q
    · exact j5 y q
    · rw [List.mem_singleton] at q
      rw [q]; exact hk5
theorem pg_pls : ∀ (m : Nat) (p q : Pg), wfG p → pgI p → plsS m p = .inr q → pgI q := by
  intro m
  induction m with
  | zero => intro p q _ _ h; cases h
  | succ m ih =>
    intro p q W I h
    obtain ⟨pa, bs, lk, rt, sy, vis, L⟩ := p
    rw [plsS_s] at h
    split at h
    · cases L with
      | nil => cases h
      | cons l L2 =>
        obtain ⟨u, i, ts⟩ := l
        unfold plsB at h
        dsimp only at h
        obtain ⟨k, h1, h⟩ := bnd_ok h
        obtain ⟨x, h2, h⟩ := bnd_ok h
        obtain ⟨c1, c2⟩ := wf_psr (lft_ok h1)
        split at h
        · have e := Sum.inr.inj h
          subst e
          exact pg_rt W I c2 c1 h2
        · exact ih _ q (wf_rt W c2 h2) (pg_rt W I c2 c1 h2) h
    · cases h
theorem pg_prg {L : List PL} {q : Pg} (h : prgS L = .inr q) : pgI q := by
  rw [prgS] at h
  obtain ⟨p, h1, h⟩ := bnd_ok h
  obtain ⟨r, h2, h⟩ := bnd_ok h
  have I0 : wfG ([], [], [], [], [], [201, 200], L) := by
    refine ⟨⟨Nat.zero_le _, fun s hs => ?_, fun s hs => ?_, fun p hp => absurd hp (Nat.not_lt_zero _)⟩, fun s hs => ?_, rfl, Nat.zero_le _, Nat.zero_le _, fun _ => (0, 0), rgs.nil _ _, fun syF _ => ⟨fun k B hB => by simp at hB, fun k x hx => by cases hx⟩⟩
    · rcases List.mem_cons.mp hs with e | e
      · exact Or.inr (Or.inr e)
      · exact Or.inr (Or.inl (by simpa using e))
    · rcases List.mem_cons.mp hs with e | e
      · rw [e]; intro z; exact absurd z (show ¬ srO [] 201 = 0 by decide)
      · have e2 : s = 200 := by simpa using e
        rw [e2]; intro z; exact absurd z (show ¬ srO [] 200 = 0 by decide)
    · rcases List.mem_cons.mp hs with e | e
      · exact Or.inr (Or.inl e)
      · exact Or.inl (by simpa using e)
  obtain ⟨I1, hr1⟩ := wf_pcs _ _ p I0 rfl h1
  have G1 := pg_pcs I1 hr1 h1
  have G2 : pgI r := by
    split at h2
    · obtain ⟨y, h3, h4⟩ := bnd_ok h2
      obtain ⟨I2, -⟩ := wf_wrs _ _ y I1 hr1 h3
      have G3 := pg_wrs _ _ y I1 G1 hr1 h3
      rw [plcS] at h4
      split at h4
      · obtain ⟨pa, bs, lk, rt, sy, vis, L4⟩ := y
        cases L4 with
        | nil => cases h4
        | cons l L5 =>
          obtain ⟨u, i, ts⟩ := l
          dsimp only at h4
          obtain ⟨_, h5, h6⟩ := bnd_ok h4
          exact pg_pls _ (pa, bs, lk, rt, sy, vis, L5) r I2 G3 h6
      · cases h4
    · obtain ⟨x, h3, h4⟩ := bnd_ok h2
      have e := Sum.inr.inj h4
      subst e
      obtain ⟨pa, bs, lk, rt, sy, vis, L1'⟩ := p
      have hr' : rt = [] := hr1
      subst hr'
      exact pg_rt (k := 0) I1 G1 rfl (by omega) h3
  split at h
  · have e := Sum.inr.inj h
    subst e
    exact G2
  · cases h
/-- parameters of different PROCs are different names -/
theorem pa_dj {pa : List (List Nat)} {bs : List Tm} {lk : List (Nat × Nat)} {rt : List (Nat × Tm)} {sy : List Sym} {vis : List Nat} {L : List PL} (W : wfG (pa, bs, lk, rt, sy, vis, L)) : ∀ p k q, p < k → k < pa.length → q ∈ pa.getD p [] → q ∈ pa.getD k [] → False := by
  obtain ⟨i1, i2, i3, i4, i5, sg, i6, i7⟩ := W
  dsimp only at i1 i2 i3 i4 i5 i6 i7
  obtain ⟨k1, -⟩ := i7 sy (sX.rf _)
  have key : ∀ j q, j < pa.length → q ∈ pa.getD j [] → (sg (2 * j)).1 < q ∧ q < (sg (2 * j)).2 := by
    intro j q hj hq
    obtain ⟨f, n, v, l, b1, b2, b3, b4, b5, b6, b7⟩ := k1 j bs[j] (List.getElem?_eq_getElem (by omega))
    rw [List.getD_eq_getElem?_getD, b1] at hq
    have hq' : q ∈ List.range' f n := hq
    rw [List.mem_range'_1] at hq'
    have := wfQ.le _ _ _ _ _ _ b7
    omega
  intro p k q hpk hk hp hk'
  have a1 := key p q (by omega) hp
  have a2 := key k q hk hk'
  have a3 := i6.2 (2 * p) (2 * k) (by omega) (Or.inl ⟨p, rfl, by omega⟩) (Or.inl ⟨k, rfl, by omega⟩)
  unfold dj at a3
  omega
/-- A PROGRAM IS AS THE SAFETY OF ITS SYSTEM NEEDS IT -/
theorem sHy_of {pa : List (List Nat)} {bs : List Tm} {lk : List (Nat × Nat)} {rt : List (Nat × Tm)} {sy : List Sym} {vis : List Nat} {L L' : List PL} {pz : List (Nat × Nat)} (h : prgS L = .inr (pa, bs, lk, rt, sy, vis, L')) (hz : pzT sy pa bs pz) (hf : fts sy pz bs.length rt = true) : sHy sy pz pa bs lk rt := by
  have W := (wf_prg h).1
  obtain ⟨j1, j2, j3, j4, j5⟩ := pg_prg h
  dsimp only at j1 j2 j3 j4 j5
  have hf' := hf
  rw [fts, Bool.and_eq_true] at hf'
  refine ⟨W.2.2.1, pa_dj W, j1 sy (sX.rf _), hz, fun k hk => ?_, ⟨W.2.2.2.2.1, j2⟩, fun p x hx => ⟨j4 sy (sX.rf _) p x hx, ?_⟩⟩
  · have f1 := ftA_k bs.length hf'.1 hk
    rw [ft1, decide_eq_true_eq] at f1
    exact f1
  · have hp : p ≤ 5 := by
      have h1 := j5 x (List.mem_of_find?_eq_some hx)
      have h2 := List.find?_some hx
      have h3 : x.1 = p := beq_iff_eq.mp h2
      omega
    have f1 := ftA_k 6 hf'.2 (by omega : p < 6)
    rw [ft2, hx] at f1
    dsimp only at f1
    rw [decide_eq_true_eq] at f1
    exact f1
