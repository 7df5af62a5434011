/-! the least signs of what is read: programs -/
def sgG (M : Nat) (p : Pg) : Prop := ∀ syF, sX p.2.2.2.2.1 syF → (∀ (k : Nat) (B : Tm), p.2.1[k]? = some B → ∃ v f n, (∀ s ∈ v, srO syF s ≤ 1) ∧ p.1[k]? = some (List.range' f n) ∧ n ≤ 6 ∧ rdQ syF B 0 (seeS v f n) ∧ cQ syF B 0 1 + 2 * n ≤ M) ∧ ∀ (k : Nat) (x : Nat × Tm), p.2.2.2.1.find? (fun x => x.1 == k) = some x → ∃ v lv, (∀ s ∈ v, srO syF s ≤ 1) ∧ rdQ syF x.2 0 v ∧ cQ syF x.2 0 lv ≤ M
theorem glo.le {np nl : Nat} {sy syF : List Sym} {s : Nat} (a : glo np nl sy s) (hl : sy.length ≤ 200) (x : sX sy syF) : srO syF s ≤ 1 := by
  rcases a with rfl | rfl | ⟨a, b⟩
  · exact Nat.le_refl 1
  · exact Nat.le_refl 1
  · unfold srO at *
    rw [syO_ex x (Or.inl a) hl]
    omega
theorem cL_suf {L L' : List PL} (h : L' <:+ L) : cL L' ≤ cL L := by
  obtain ⟨A, rfl⟩ := h
  induction A with
  | nil => exact Nat.le_refl _
  | cons x r ih => show cL L' ≤ x.2.1 + cT x.2.2 + 1 + cL (r ++ L'); omega
theorem tx_prm {fr : Nat} {sy : List Sym} {ts : List Tok} {x : List Sym × List Tok} (hl : sy.length ≤ 200) (h : prmS fr sy ts = .inr x) : 2 + cT x.2 ≤ cT ts := by
  rw [prmS] at h
  obtain ⟨z, h1, h⟩ := bnd_ok h
  obtain ⟨r, h2, h⟩ := bnd_ok h
  have n1 := tx_new hl h x.1 (sX.rf _)
  obtain ⟨c1, c2⟩ := tkS_c h2
  have c3 : 3 ≤ tc (hd z.2.2) := by
    rw [isW_c c1]
    split <;> decide
  have c4 : cT z.2.2 ≤ cT ts := by
    rw [prkS] at h1
    split at h1
    · have e := Sum.inr.inj h1; subst e; have := cT_hd (ts := ts); dsimp only; omega
    split at h1
    · obtain ⟨y, h3, h1⟩ := bnd_ok h1
      obtain ⟨r2, h4, h1⟩ := bnd_ok h1
      have e := Sum.inr.inj h1; subst e
      have := numS_c h3
      obtain ⟨d1, d2⟩ := tkS_c h4
      have := cT_hd (ts := ts)
      dsimp only; omega
    split at h1
    · have e := Sum.inr.inj h1; subst e; exact Nat.le_refl _
    · have e := Sum.inr.inj h1; subst e; exact Nat.le_refl _
  omega
theorem tx_prs {fr : Nat} : ∀ (m : Nat) (sy : List Sym) (ts : List Tok) (x : List Sym × List Tok), sy.length ≤ 200 → prsS fr m sy ts = .inr x → 2 * (x.1.length - sy.length) + cT x.2 ≤ cT ts := by
  intro m
  induction m with
  | zero => intro sy ts x _ h; cases h
  | succ m ih =>
    intro sy ts x hl h
    rw [prsS] at h
    obtain ⟨y, h1, h⟩ := bnd_ok h
    obtain ⟨c1, c2, c3, c4⟩ := wf_prm hl h1
    have d := tx_prm hl h1
    split at h
    · have i1 := ih y.1 _ x (by omega) h
      have := cT_hd (ts := y.2)
      omega
    · have e := Sum.inr.inj h
      subst e
      omega
theorem tx_prh {np : Nat} {sy sy2 : List Sym} {ts : List Tok} (hl : sy.length ≤ 200) (h : prhS np sy ts = .inr sy2) : 2 * (sy2.length - (sy.length + 1)) ≤ cT ts := by
  rw [prhS] at h
  obtain ⟨n, h1, h⟩ := bnd_ok h
  obtain ⟨r, h2, h⟩ := bnd_ok h
  obtain ⟨x, h3, h⟩ := bnd_ok h
  obtain ⟨r2, h4, h⟩ := bnd_ok h
  obtain ⟨z, h5, h⟩ := bnd_ok h
  have e := Sum.inr.inj h
  subst e
  obtain ⟨c1, c2, cs, c3⟩ := wf_glo hl h1
  have hn : n.1.length = sy.length + 1 := by rw [c3]; simp
  have d0 : cT n.2 ≤ cT ts := by
    rw [gloS] at h1
    split at h1
    · split at h1
      · cases h1
      · have := tx_new hl h1 n.1 (sX.rf _)
        omega
    · cases h1
  obtain ⟨d1, d2⟩ := tkS_c h2
  split at h3
  · have e := Sum.inr.inj h3
    subst e
    dsimp only
    omega
  · have d3 := tx_prs 6 n.1 r x (by omega) h3
    omega
theorem tx_prc {M u i : Nat} {ts : List Tok} {L L0 : List PL} {pa : List (List Nat)} {bs : List Tm} {lk : List (Nat × Nat)} {sy : List Sym} {vis : List Nat} {q : Pg} (I : wfG (pa, bs, lk, [], sy, vis, L0)) (G : sgG M (pa, bs, lk, [], sy, vis, L0)) (hM : cL ((u, i, ts) :: L) ≤ M) (hL : ∀ y ∈ L, y.1 ≤ 3000) (h : prcS u ts L (pa, bs, lk, [], sy, vis, L0) = .inr q) : sgG M q ∧ q.2.2.2.2.2.2 <:+ L := by
  obtain ⟨i1, i2, i3, i4, i5, sg, i6, i7⟩ := I
  dsimp only at i1 i2 i3 i4 i5 i6 i7
  rw [prcS] at h
  dsimp only at h
  obtain ⟨sy2, h1, h⟩ := bnd_ok h
  obtain ⟨x, h2, h⟩ := bnd_ok h
  obtain ⟨L3, h3, h⟩ := bnd_ok h
  have e := Sum.inr.inj h
  subst e
  obtain ⟨c1, c2, c3, c4, c5, c6, c7, c8⟩ := wf_prh i1.1 (lft_ok h1)
  have c9 := tx_prh i1.1 (lft_ok h1)
  have I2 : wfI pa sy2 (seeS vis (sy.length + 1) (sy2.length - (sy.length + 1))) := (i1.ex c5 c2).see _ (by omega) (fun k hk => by
    have := (c8 (sy.length + 1 + k) (by omega) (by omega)).1
    unfold prm at this
    omega)
  obtain ⟨d1, d2, d3, d4⟩ := wf_pro pa fuel _ _ _ _ _ I2 h2
  obtain ⟨p1, p2⟩ := tx_pro pa fuel _ _ _ _ _ I2 h2
  have xx : sX sy x.2.1 := c5.tr d1
  have s3 : L3 <:+ x.2.2 := by
    revert h3
    generalize x.2.2 = Lx
    intro h3
    cases Lx with
    | nil => cases h3
    | cons y r =>
      obtain ⟨u', i', ts'⟩ := y
      unfold cloS at h3
      split at h3
      · dsimp only at h3
        obtain ⟨_, _, h3⟩ := bnd_ok h3
        have e := Sum.inr.inj h3
        subst e
        exact List.suffix_cons _ _
      · cases h3
  refine ⟨fun syF xF => ?_, s3.trans p1⟩
  obtain ⟨g1, g2⟩ := G syF (xx.tr xF)
  obtain ⟨a1, a2⟩ := p2 hL syF xF
  have hM' : i + cT ts + 1 + cL L ≤ M := hM
  have c10 := cT_hd (ts := ts)
  constructor
  · intro k B hB
    show ∃ v f n, _ ∧ (pa ++ [List.range' (sy.length + 1) (sy2.length - (sy.length + 1))])[k]? = some (List.range' f n) ∧ _
    have hB' : (bs ++ [x.1])[k]? = some B := hB
    by_cases e : k = bs.length
    · have eB : B = x.1 := by
        rw [e, List.getElem?_append_right (Nat.le_refl _), Nat.sub_self] at hB'
        exact (Option.some.inj hB').symm
      refine ⟨vis, sy.length + 1, sy2.length - (sy.length + 1), fun s hs => (i2 s hs).le i1.1 (xx.tr xF), ?_, by omega, ?_, ?_⟩
      · rw [e, i3, List.getElem?_append_right (Nat.le_refl _), Nat.sub_self]; rfl
      · rw [eB]; exact a1
      · rw [eB]; omega
    · have hk : k < bs.length + 1 := by have := gt_lt hB'; rw [List.length_append] at this; exact this
      rw [List.getElem?_append_left (by omega)] at hB'
      obtain ⟨v, f, n, b1, b2, b3⟩ := g1 k B hB'
      exact ⟨v, f, n, b1, by rw [List.getElem?_append_left (by omega)]; exact b2, b3⟩
  · intro k y hy
    cases hy
theorem tx_pcs {M : Nat} : ∀ (m : Nat) (p q : Pg), wfG p → sgG M p → p.2.2.2.1 = [] → cL p.2.2.2.2.2.2 ≤ M → (∀ y ∈ p.2.2.2.2.2.2, y.1 ≤ 3000) → pcsS m p = .inr q → sgG M q ∧ q.2.2.2.2.2.2 <:+ p.2.2.2.2.2.2 := by
  intro m
  induction m with
  | zero => intro p q _ _ _ _ _ h; cases h
  | succ m ih =>
    intro p q I G hr hM hL h
    obtain ⟨pa, bs, lk, rt, sy, vis, L⟩ := p
    have hr' : rt = [] := hr
    subst hr'
    rw [pcsS] at h
    split at h
    · cases L with
      | nil => cases h
      | cons l L2 =>
        obtain ⟨u, i, ts⟩ := l
        dsimp only at h
        obtain ⟨y, h1, h⟩ := bnd_ok h
        obtain ⟨c1, c2⟩ := wf_prc I h1
        obtain ⟨d1, d2⟩ := tx_prc (i := i) I G hM (fun z hz => hL z (List.mem_cons_of_mem _ hz)) h1
        have e0 : cL L2 ≤ cL ((u, i, ts) :: L2) := cL_suf (List.suffix_cons _ _)
        obtain ⟨e1, e2⟩ := ih y q c1 d1 c2 (Nat.le_trans (Nat.le_trans (cL_suf d2) e0) hM) (fun z hz => hL z (List.mem_cons_of_mem _ (sf_mem d2 hz))) h
        exact ⟨e1, (e2.trans d2).trans (List.suffix_cons _ _)⟩
    · have e := Sum.inr.inj h
      subst e
      exact ⟨G, List.suffix_refl _⟩
theorem tx_wrs {M : Nat} : ∀ (m : Nat) (p q : Pg), wfG p → sgG M p → p.2.2.2.1 = [] → wrsS m p = .inr q → sgG M q ∧ q.2.2.2.2.2.2 <:+ p.2.2.2.2.2.2 := by
  intro m
  induction m with
  | zero => intro p q _ _ _ h; cases h
  | succ m ih =>
    intro p q I G hr h
    obtain ⟨pa, bs, lk, rt, sy, vis, L⟩ := p
    have hr' : rt = [] := hr
    subst hr'
    rw [wrsS] at h
    split at h
    · cases L with
      | nil => cases h
      | cons l L2 =>
        obtain ⟨u, i, ts⟩ := l
        dsimp only at h
        obtain ⟨z, h1, h⟩ := bnd_ok h
        obtain ⟨c1, c2, cs, c3⟩ := wf_wir I.1.1 (lft_ok h1)
        have G2 : sgG M (pa, bs, lk ++ [z.2], [], z.1, sy.length :: vis, L2) := by
          intro syF xF
          obtain ⟨g1, g2⟩ := G syF (sX.tr ⟨_, c3⟩ xF)
          exact ⟨g1, g2⟩
        obtain ⟨d1, d2⟩ := ih _ q (wf_lnk I c1 c2 c3) G2 rfl h
        exact ⟨d1, d2.trans (List.suffix_cons _ _)⟩
    · have e := Sum.inr.inj h
      subst e
      exact ⟨G, List.suffix_refl _⟩
theorem tx_rt {M k lv : Nat} {pa : List (List Nat)} {bs : List Tm} {lk : List (Nat × Nat)} {rt : List (Nat × Tm)} {sy : List Sym} {vis : List Nat} {L0 L1 L2 : List PL} {x : Tm × List Sym × List PL} (I : wfG (pa, bs, lk, rt, sy, vis, L0)) (G : sgG M (pa, bs, lk, rt, sy, vis, L0)) (hk : rt.find? (fun x => x.1 == k) = none) (hM : cL L1 ≤ M) (hL : ∀ y ∈ L1, y.1 ≤ 3000) (h : proS pa fuel lv vis sy L1 = .inr x) : sgG M (pa, bs, lk, rt ++ [(k, x.1)], x.2.1, vis, L2) ∧ x.2.2 <:+ L1 := by
  obtain ⟨i1, i2, i3, i4, i5, sg, i6, i7⟩ := I
  dsimp only at i1 i2 i3 i4 i5 i6 i7
  obtain ⟨d1, d2, d3, d4⟩ := wf_pro pa fuel _ _ _ _ _ i1 h
  obtain ⟨p1, p2⟩ := tx_pro pa fuel _ _ _ _ _ i1 h
  refine ⟨fun syF xF => ?_, p1⟩
  obtain ⟨g1, g2⟩ := G syF (d1.tr xF)
  obtain ⟨a1, a2⟩ := p2 hL syF xF
  refine ⟨g1, ?_⟩
  intro k' y hy
  have hy' : (rt ++ [(k, x.1)]).find? (fun x => x.1 == k') = some y := hy
  rw [List.find?_append] at hy'
  by_cases e : k' = k
  · subst e
    rw [hk] at hy'
    simp only [Option.none_or, List.find?_cons, beq_self_eq_true] at hy'
    have ey := Option.some.inj hy'
    subst ey
    exact ⟨vis, lv, fun s hs => (i2 s hs).le i1.1 (d1.tr xF), a1, by dsimp only; omega⟩
  · have e2 : ([(k, x.1)] : List (Nat × Tm)).find? (fun x => x.1 == k') = none := by simp; omega
    rw [e2, Option.or_none] at hy'
    exact g2 k' y hy'
theorem tx_pls {M : Nat} : ∀ (m : Nat) (p q : Pg), wfG p → sgG M p → cL p.2.2.2.2.2.2 ≤ M → (∀ y ∈ p.2.2.2.2.2.2, y.1 ≤ 3000) → plsS m p = .inr q → sgG M q := by
  intro m
  induction m with
  | zero => intro p q _ _ _ _ h; cases h
  | succ m ih =>
    intro p q I G hM hL h
    obtain ⟨pa, bs, lk, rt, sy, vis, L⟩ := p
    rw [plsS_s] at h
    split at h
    · cases L with
      | nil => cases h
      | cons l L2 =>
        obtain ⟨u, i, ts⟩ := l
        unfold plsB at h
        dsimp only at h hM hL
        obtain ⟨k, h1, h⟩ := bnd_ok h
        obtain ⟨x, h2, h⟩ := bnd_ok h
        obtain ⟨c1, c2⟩ := wf_psr (lft_ok h1)
        have e0 : cL L2 ≤ M := Nat.le_trans (cL_suf (List.suffix_cons _ _)) hM
        have hL2 : ∀ y ∈ L2, y.1 ≤ 3000 := fun z hz => hL z (List.mem_cons_of_mem _ hz)
        split at h
        · have e := Sum.inr.inj h
          subst e
          exact (tx_rt I G c2 e0 hL2 h2).1
        · obtain ⟨d1, d2⟩ := tx_rt (L2 := x.2.2) I G c2 e0 hL2 h2
          exact ih _ q (wf_rt I c2 h2) d1 (Nat.le_trans (cL_suf d2) e0) (fun z hz => hL2 z (sf_mem d2 hz)) h
    · cases h
/-- every process of a program and its signs -/
theorem tx_prg {M : Nat} {L : List PL} {q : Pg} (hM : cL L ≤ M) (hL : ∀ y ∈ L, y.1 ≤ 3000) (h : prgS L = .inr q) : sgG M q := by
  rw [prgS] at h
  obtain ⟨p, h1, h⟩ := bnd_ok h
  obtain ⟨r, h2, h⟩ := bnd_ok h
  have I0 : wfG ([], [], [], [], [], [201, 200], L) := by
    refine ⟨⟨Nat.zero_le _, fun s hs => ?_, fun s hs => ?_, fun p hp => absurd hp (Nat.not_lt_zero _)⟩, fun s hs => ?_, rfl, Nat.zero_le _, Nat.zero_le _, fun _ => (0, 0), rgs.nil _ _, fun syF _ => ⟨fun k B hB => by simp at hB, fun k x hx => by cases hx⟩⟩
    · rcases List.mem_cons.mp hs with e | e
      · exact Or.inr (Or.inr e)
      · exact Or.inr (Or.inl (by simpa using e))
    · rcases List.mem_cons.mp hs with e | e
      · rw [e]; intro z; exact absurd z (show ¬ srO [] 201 = 0 by decide)
      · have e2 : s = 200 := by simpa using e
        rw [e2]; intro z; exact absurd z (show ¬ srO [] 200 = 0 by decide)
    · rcases List.mem_cons.mp hs with e | e
      · exact Or.inr (Or.inl e)
      · exact Or.inl (by simpa using e)
  have G0 : sgG M ([], [], [], [], [], [201, 200], L) := fun syF _ => ⟨fun k B hB => by simp at hB, fun k x hx => by cases hx⟩
  obtain ⟨I1, hr1⟩ := wf_pcs _ _ p I0 rfl h1
  obtain ⟨G1, s1⟩ := tx_pcs _ _ p I0 G0 rfl hM hL h1
  have M1 : cL p.2.2.2.2.2.2 ≤ M := Nat.le_trans (cL_suf s1) hM
  have L1 : ∀ y ∈ p.2.2.2.2.2.2, y.1 ≤ 3000 := fun z hz => hL z (sf_mem s1 hz)
  have G2 : sgG M r := by
    split at h2
    · obtain ⟨y, h3, h4⟩ := bnd_ok h2
      obtain ⟨I2, -⟩ := wf_wrs _ _ y I1 hr1 h3
      obtain ⟨G3, s3⟩ := tx_wrs _ _ y I1 G1 hr1 h3
      have M3 : cL y.2.2.2.2.2.2 ≤ M := Nat.le_trans (cL_suf s3) M1
      have L3 : ∀ z ∈ y.2.2.2.2.2.2, z.1 ≤ 3000 := fun z hz => L1 z (sf_mem s3 hz)
      rw [plcS] at h4
      split at h4
      · obtain ⟨pa, bs, lk, rt, sy, vis, L4⟩ := y
        cases L4 with
        | nil => cases h4
        | cons l L5 =>
          obtain ⟨u, i, ts⟩ := l
          dsimp only at h4 M3 L3
          obtain ⟨_, h5, h6⟩ := bnd_ok h4
          exact tx_pls _ (pa, bs, lk, rt, sy, vis, L5) r I2 G3 (Nat.le_trans (cL_suf (List.suffix_cons _ _)) M3) (fun z hz => L3 z (List.mem_cons_of_mem _ hz)) h6
      · cases h4
    · obtain ⟨x, h3, h4⟩ := bnd_ok h2
      have e := Sum.inr.inj h4
      subst e
      obtain ⟨pa, bs, lk, rt, sy, vis, L1'⟩ := p
      have hr' : rt = [] := hr1
      subst hr'
      exact (tx_rt (k := 0) I1 G1 rfl M1 L1 h3).1
  split at h
  · have e := Sum.inr.inj h
    subst e
    exact G2
  · cases h
