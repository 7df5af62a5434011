/-! THE LAW, first part: what holds between two calls of the law, on both sides -/
/-- what is known of a program that was compiled -/
noncomputable def xQ (q : Pg) : Xs := xOf q.2.2.2.2.1 (pzQ q) q.1 q.2.1 q.2.2.2.1 (lsQ q)
def okQ (q : Pg) : Prop := okG (gQ q) ∧ okBg (gQ q) (bQ q) ∧ (∀ p, p < 6 → (gQ q).1 p = true → ∀ x, x < (bQ q p).1 → (gQ q).2.2.2.2 p x < 256) ∧ (∀ p, p < 6 → (gQ q).1 p = true → ¬ (gQ q).2.2.2.2 p ((bQ q p).1 - 1) / 16 = 2 ∧ ¬ (gQ q).2.2.2.2 p ((bQ q p).1 - 1) / 16 = 6) ∧ (∀ p, p < 6 → (gQ q).1 p = true → okC (xQ q p).1 ((gQ q).2.2.2.2 p)) ∧ ∀ S, SI (xQ q) (gQ q) 0 (sBeg (gQ q) (bQ q) S)
/-- the component's side, the twin's side, the system -/
def CPj (t : Nat → Nat) (n : Nat) (F : Int32 × Int32 × Int32) (st : Option Pg) (S : Sy) (h : mj_H) : Prop := cTx t n h ∧ cFt F h ∧ (∀ G, RSy G S h) ∧ match st with
  | none => h.1 2 0 9 = 0
  | some q => RG (gQ q) h ∧ RB (gQ q) (bQ q) h ∧ h.1 4 0 14 = nI q.2.2.2.2.1.length ∧ h.1 4 0 17 = nI q.1.length
def TPj (t : Nat → Nat) (n : Nat) (F : Int32 × Int32 × Int32) (st : Option Pg) (S : Sy) (h : mj_H) : Prop := yTx t n h ∧ tFt F h ∧ tW68 h ∧ tIO S h ∧ match st with
  | none => h.1 15 0 58 = 0
  | some q => YG (gQ q) h ∧ YB (gQ q) (bQ q) h ∧ YT (gQ q) S h ∧ h.1 15 0 28 = nI q.2.2.2.2.1.length ∧ h.1 15 0 46 = nI q.1.length
def JI (K : Nat) (st : Option Pg) (S : Sy) : Prop := match st with
  | none => True
  | some q => okQ q ∧ sStl (gQ q) S ∧ SI (xQ q) (gQ q) K S
def JW (K : Nat) (h : mj_H) : Prop := ∃ t n F st S, CPj t n F st S h ∧ TPj t n F st S h ∧ JI K st S
section
variable {t : Nat → Nat} {n K d : Nat} {F : Int32 × Int32 × Int32} {st : Option Pg} {S S' : Sy} {h h' h1 : mj_H} {q : Pg}
theorem JI.le {K' : Nat} (a : JI K st S) (hk : K ≤ K') : JI K' st S := by
  cases st with
  | none => trivial
  | some q => exact ⟨a.1, a.2.1, SI_m a.2.2 hk⟩
theorem RG.m1 {G : PgS} (a : RG G h) (f : ∀ g i j, (g = 46 ∨ g = 44 ∨ g = 45 ∨ g = 4 ∨ g = 69 ∨ (g = 2 ∧ j = 9)) → h'.1 g i j = h.1 g i j) : RG G h' := by
  obtain ⟨a1, a2, a3, a4, a5⟩ := a
  refine ⟨fun p hp => by rw [f 46 0 p (by omega)]; exact a1 p hp, fun l hl => by rw [f 44 0 l (by omega), f 45 0 l (by omega)]; exact a2 l hl, ⟨by rw [f 4 0 25 (by omega)]; exact a3.1, a3.2⟩, fun p hp hg x hx hb => by rw [f 69 p x (by omega)]; exact a4 p hp hg x hx hb, by rw [f 2 0 9 (by omega)]; exact a5⟩
theorem RB.m1 {G : PgS} {B : Bg} (a : RB G B h) (f : ∀ i j, 3 ≤ j → j ≤ 6 → h'.1 13 i j = h.1 13 i j) : RB G B h' := fun p hp hg => by
  obtain ⟨b1, b2, b3, b4⟩ := a p hp hg
  exact ⟨(f p 3 (by omega) (by omega)).trans b1, (f p 5 (by omega) (by omega)).trans b2, (f p 4 (by omega) (by omega)).trans b3, (f p 6 (by omega) (by omega)).trans b4⟩
theorem cTx.m1 (a : cTx t n h) (f : ∀ g i j, (g = 3 ∧ j = 1) ∨ g = 21 → h'.1 g i j = h.1 g i j) : cTx t n h' := ⟨a.1, (f 3 0 1 (by omega)).trans a.2.1, fun j hj => (f 21 0 j (by omega)).trans (a.2.2 j hj)⟩
theorem cFt.m1 (a : cFt F h) (f : ∀ j, 11 ≤ j → j ≤ 13 → h'.1 2 0 j = h.1 2 0 j) : cFt F h' := ⟨(f 11 (by omega) (by omega)).trans a.1, (f 12 (by omega) (by omega)).trans a.2.1, (f 13 (by omega) (by omega)).trans a.2.2⟩
/-- the component's side moves where its own groups stay -/
theorem CPj.mv (a : CPj t n F st S h) (f : ∀ g i j, ¬ (g = 15 ∨ 72 ≤ g) → h'.1 g i j = h.1 g i j) : CPj t n F st S h' := by
  obtain ⟨a1, a2, a3, a4⟩ := a
  refine ⟨a1.m1 (fun g i j c => f g i j (by omega)), a2.m1 (fun j _ _ => f 2 0 j (by omega)), fun G => (a3 G).sk (fun g i j c => f g i j (by omega)), ?_⟩
  cases st with
  | none => exact (f 2 0 9 (by omega)).trans a4
  | some q =>
    obtain ⟨b1, b2, b3, b4⟩ := a4
    exact ⟨b1.m1 (fun g i j c => f g i j (by omega)), b2.m1 (fun i j _ _ => f 13 i j (by omega)), (f 4 0 14 (by omega)).trans b3, (f 4 0 17 (by omega)).trans b4⟩
theorem YG.m1 {G : PgS} (a : YG G h) (f : ∀ g j, (106 ≤ g ∧ g ≤ 108) ∨ g = 125 ∨ (g = 15 ∧ (j = 52 ∨ j = 58)) → h'.1 g 0 j = h.1 g 0 j) : YG G h' := by
  obtain ⟨a1, a2, a3, a4, a5⟩ := a
  refine ⟨fun p hp => by rw [f 108 p (by omega)]; exact a1 p hp, fun l hl => by rw [f 106 l (by omega), f 107 l (by omega)]; exact a2 l hl, ⟨by rw [f 15 52 (by omega)]; exact a3.1, a3.2⟩, fun p hp hg x hx hb => by rw [f 125 _ (by omega)]; exact a4 p hp hg x hx hb, by rw [f 15 58 (by omega)]; exact a5⟩
theorem YB.m1 {G : PgS} {B : Bg} (a : YB G B h) (f : ∀ g j, g = 126 ∨ g = 127 ∨ g = 109 ∨ g = 110 → h'.1 g 0 j = h.1 g 0 j) : YB G B h' := fun p hp hg => by
  obtain ⟨b1, b2, sz, dp, b3, b4, b5⟩ := a p hp hg
  exact ⟨(f 126 p (by omega)).trans b1, (f 127 p (by omega)).trans b2, sz, dp, (f 109 p (by omega)).trans b3, (f 110 p (by omega)).trans b4, b5⟩
theorem YT.m1 {G : PgS} (a : YT G S h) (f : ∀ g j, (131 ≤ g ∧ g ≤ 157) ∨ (g = 15 ∧ (j = 110 ∨ j = 111 ∨ j = 113 ∨ j = 120 ∨ j = 121)) → h'.1 g 0 j = h.1 g 0 j) : YT G S h' := by
  obtain ⟨a1, a2, a3, a4, a5⟩ := a
  refine ⟨fun p hp hg => ⟨(a1 p hp hg).1.mv (fun g i j c => by obtain ⟨rfl, c⟩ := c; exact f g j (by omega)), (a1 p hp hg).2⟩, fun p hp hg => ⟨(f 138 p (by omega)).trans (a2 p hp hg).1, fun x hx => (f 131 _ (by omega)).trans ((a2 p hp hg).2 x hx)⟩, a3.mf (fun g j c => f g j (by omega)), (f 15 120 (by omega)).trans a4, (f 15 121 (by omega)).trans a5⟩
theorem yTx.m1 (a : yTx t n h) (f : ∀ g j, (g = 15 ∧ j = 2) ∨ g = 72 → h'.1 g 0 j = h.1 g 0 j) : yTx t n h' := ⟨a.1, (f 15 2 (by omega)).trans a.2.1, fun j hj => (f 72 j (by omega)).trans (a.2.2 j hj)⟩
theorem tFt.m1 (a : tFt F h) (f : ∀ j, 16 ≤ j → j ≤ 18 → h'.1 15 0 j = h.1 15 0 j) : tFt F h' := ⟨(f 16 (by omega) (by omega)).trans a.1, (f 17 (by omega) (by omega)).trans a.2.1, (f 18 (by omega) (by omega)).trans a.2.2⟩
/-- the twin's side moves where its own groups stay, but for what it keeps as thrown -/
theorem TPj.mv (a : TPj t n F st S h) (f : ∀ g i j, g = 15 ∨ 72 ≤ g → ¬ (g = 15 ∧ j = 0) → h'.1 g i j = h.1 g i j) : TPj t n F st S h' := by
  obtain ⟨a1, a2, a3, a4, a5⟩ := a
  refine ⟨a1.m1 (fun g j c => f g 0 j (by omega) (by omega)), a2.m1 (fun j _ _ => f 15 0 j (by omega) (by omega)), a3.mv (f 15 0 68 (by omega) (by omega)), a4.mv (fun g j c => f g 0 j (by omega) (by omega)), ?_⟩
  cases st with
  | none => exact (f 15 0 58 (by omega) (by omega)).trans a5
  | some q =>
    obtain ⟨b1, b2, b3, b4, b5⟩ := a5
    exact ⟨b1.m1 (fun g j c => f g 0 j (by omega) (by omega)), b2.m1 (fun g j c => f g 0 j (by omega) (by omega)), b3.m1 (fun g j c => f g 0 j (by omega) (by omega)), (f 15 0 28 (by omega) (by omega)).trans b4, (f 15 0 46 (by omega) (by omega)).trans b5⟩
theorem JW.th (a : JW K h) (v : Int32) : JW K (mj_sI h 15 0 0 v) := by
  obtain ⟨t, n, F, st, S, a1, a2, a3⟩ := a
  exact ⟨t, n, F, st, S, a1.mv (fun g i j c => by rw [mI_1, if_neg (by omega)]), a2.mv (fun g i j _ c => by rw [mI_1, if_neg (by omega)]), a3⟩
/-- both agree: a value, or what is thrown -/
def jA (EX : List Nat) (K : Nat) (R1 R2 : mj_H → Option mj_O) (h : mj_H) : Prop :=
  (∃ v h1 h2, R1 h = some (.inl (some (vI v), h1)) ∧ R2 h1 = some (.inl (some (vI v), h2)) ∧ h2.1 15 0 0 = 0 ∧ JW K h2) ∨
  ∃ e i v h1 h2, R1 h = some (.inr (e, h1)) ∧ EX[i]? = some e ∧ R2 h1 = some (.inl (some (vI v), h2)) ∧ h2.1 15 0 0 = nI (i + 1) ∧ JW K h2
def jV (EX : List Nat) (K : Nat) (R1 R2 : mj_H → Option mj_O) (h : mj_H) : Prop :=
  (∃ h1 h2, R1 h = some (.inl (none, h1)) ∧ R2 h1 = some (.inl (none, h2)) ∧ h2.1 15 0 0 = 0 ∧ JW K h2) ∨
  ∃ e i h1 h2, R1 h = some (.inr (e, h1)) ∧ EX[i]? = some e ∧ R2 h1 = some (.inl (none, h2)) ∧ h2.1 15 0 0 = nI (i + 1) ∧ JW K h2
theorem j_ask {EX : List Nat} {cd : Nat → Nat} {R1 R2 : mj_H → Option mj_O} {x : An} (J : JW K h) (e1 : R1 h = rsl x h) (e2 : R2 h = yrs cd x h) (hx : ∀ e, x = .inr e → ∃ i, EX[i]? = some e ∧ cd e = i + 1) : jA EX K R1 R2 h := by
  cases x with
  | inl v => exact Or.inl ⟨v, h, _, e1, e2, by simp [mI_1], J.th 0⟩
  | inr e =>
    obtain ⟨i, i1, i2⟩ := hx e rfl
    exact Or.inr ⟨e, i, 0, h, _, e1, i1, e2, by simp [mI_1, i2], J.th _⟩
/-- a change of the component's, then one of the twin's -/
theorem JW.of {t' : Nat → Nat} {n' : Nat} {F' : Int32 × Int32 × Int32} {st' : Option Pg} {h2 : mj_H} (a : TPj t n F st S h) (c : TPj t n F st S h1 → CPj t' n' F' st' S' h1 → TPj t' n' F' st' S' h2 ∧ ∀ g i j, ¬ (g = 15 ∨ 72 ≤ g) → h2.1 g i j = h1.1 g i j) (f1 : ∀ g i j, g = 15 ∨ 72 ≤ g → h1.1 g i j = h.1 g i j) (b : CPj t' n' F' st' S' h1) (k : JI K st' S') : JW K h2 := by
  obtain ⟨x1, x2⟩ := c (a.mv (fun g i j c _ => f1 g i j c)) b
  exact ⟨t', n', F', st', S', b.mv x2, x1, k⟩
/-! what compiling gives -/
theorem mnL_nil {L : List Nat} (hb : ∀ u, u ∈ L → u < 100000) (h : mnL (-1) L = -1) : L = [] := by
  have a := lst_go L [] (-1) hb (Or.inl ⟨rfl, rfl⟩)
  rw [List.nil_append] at a
  rcases a with ⟨-, a2⟩ | ⟨v, a1, a2, -⟩
  · exact a2
  · exact absurd (a2.symm.trans h) (ne1 (by have := hb v a1; omega))
theorem offR_nil {kp : Nat → Bool} {fl mk : Bool} {sy : List Sym} {pa : List (List Nat)} {bs : List Tm} {lk : List (Nat × Nat)} {rt : List (Nat × Tm)} : ∀ (m : Nat), offR kp fl mk sy pa bs lk rt m = [] → ∀ p x, p < m → rt.find? (fun x => x.1 == p) = some x → offP kp fl mk sy (pbF kp fl sy pa bs bs.length) pa lk (some p) x.2 0 r0 = []
  | 0, _, p, x, hp, _ => absurd hp (Nat.not_lt_zero _)
  | m + 1, h, p, x, hp, hx => by
    have h : offR kp fl mk sy pa bs lk rt m ++ ofR kp fl mk sy pa bs lk rt m = [] := h
    obtain ⟨h1, h2⟩ := List.append_eq_nil_iff.mp h
    by_cases c : p = m
    · subst c
      unfold ofR at h2
      rw [hx] at h2
      exact h2
    · exact offR_nil m h1 p x (by omega) hx
theorem kpC_ch (sy : List Sym) (s : Nat) (h : sChn (srO sy s) = true) : kpC sy s = true := by
  unfold kpC kepS
  simp [h]
theorem cmp_ok (hT : txOK t n) (h : cmp (txL t n) = .inr q) : okQ q := by
  unfold cmp at h
  cases hp : prgS (txL t n) with
  | inl f => rw [hp] at h; cases h
  | inr q' =>
    rw [hp] at h
    dsimp only at h
    by_cases c1 : fts q'.2.2.2.2.1 (pzQ q') q'.2.1.length q'.2.2.2.1 = false
    · rw [if_pos c1] at h; cases h
    · rw [if_neg c1] at h
      by_cases c2 : mnL (-1) (offs q') ≠ -1
      · rw [if_pos c2] at h; cases h
      · rw [if_neg c2] at h
        by_cases c3 : okTo q' 6
        · rw [if_pos c3] at h
          cases h
          obtain ⟨pa, bs, lk, rt, sy, vis, L'⟩ := q
          obtain ⟨mT, lT⟩ := txL_c hT
          have SG : sgG 3001 (pa, bs, lk, rt, sy, vis, L') := tx_prg mT lT hp
          have hf : fts sy (pzO sy pa bs) bs.length rt = true := by
            cases e : fts sy (pzO sy pa bs) bs.length rt with
            | true => rfl
            | false => exact absurd e c1
          have sH := q_sHy hp hf
          have sL := q_lHy hp c3
          have c2' : mnL (-1) (offs (pa, bs, lk, rt, sy, vis, L')) = -1 := Classical.not_not.mp c2
          have nil : offB (kpC sy) true false sy pa bs lk bs.length ++ offR (kpC sy) true false sy pa bs lk rt 6 = [] := mnL_nil (fun u hu => ln_all SG hu) c2'
          obtain ⟨n1, n2⟩ := List.append_eq_nil_iff.mp nil
          obtain ⟨s1, s2, s3⟩ := s_all (kp := kpC sy) (kpC_ch sy) sH sL n1 (fun p x hp6 hx => offR_nil 6 n2 p x hp6 hx)
          obtain ⟨b1, b2, b3⟩ := b_all sH sL
          exact ⟨s1, b1, b2, b3, s2, s3⟩
        · rw [if_neg c3] at h; cases h
/-! what is settled stays settled -/
theorem sRun_lo {G : PgS} {p : Nat} (hp : p < 6) (hg : G.1 p = true) : ∀ (k : Nat) (S S' : Sy) (v m : Int32), sStl G S → sRun G p k S v = some (m, S') → sStl G S'
  | 0, S, S', v, m, a, e => by cases e; exact a
  | k + 1, S, S', v, m, a, e => by
    unfold sRun at e
    split at e
    · cases e; exact a
    · obtain ⟨S1, e1, e2⟩ := Option.bind_eq_some_iff.mp e
      exact sRun_lo hp hg k S1 S' _ m (sStep_lo a hp hg e1) e2
theorem sBn_lo {G : PgS} (e6 : ∀ l, l < G.2.2.2.1 → G.2.1 l < 6 ∧ G.2.2.1 l < 6) : ∀ (k : Nat) (S S' : Sy) (v m : Int32), sStl G S → sBn G k S v = some (m, S') → sStl G S'
  | 0, S, S', v, m, a, e => by cases e; exact a
  | k + 1, S, S', v, m, a, e => by
    unfold sBn at e
    obtain ⟨⟨y, S1⟩, e1, e2⟩ := Option.bind_eq_some_iff.mp e
    exact sBn_lo e6 k S1 S' _ m (sBa_lo e6 a e1) e2
theorem sRs_lo {G : PgS} (e6 : ∀ l, l < G.2.2.2.1 → G.2.1 l < 6 ∧ G.2.2.1 l < 6) : ∀ (k : Nat) (S S' : Sy) (v m : Int32), sStl G S → sRs G k S v = some (m, S') → sStl G S'
  | 0, S, S', v, m, a, e => by cases e; exact a
  | k + 1, S, S', v, m, a, e => by
    unfold sRs at e
    split at e
    · cases e; exact a
    · obtain ⟨S1, e1, e2⟩ := Option.bind_eq_some_iff.mp e
      obtain ⟨⟨y, S2⟩, e3, e4⟩ := Option.bind_eq_some_iff.mp e2
      exact sRs_lo e6 k S2 S' _ m (sBa_lo e6 (sRd_lo 6 0 S S1 rfl a e1) e3) e4
theorem sInp_lo {G : PgS} {v : Int32} (a : sStl G S) (e : sInp G S v = some S') : sStl G S' := by
  unfold sInp at e
  split at e
  · split at e
    · rename_i hg
      obtain ⟨⟨b, s1⟩, e1, e2⟩ := Option.bind_eq_some_iff.mp e
      have l1 : lo s1 := by
        have := cCome_15 e1
        unfold lo
        rw [this]
        exact (a 0 (by omega) hg).1
      dsimp only at e2
      split at e2
      · split at e2
        · obtain ⟨s2, e3, e4⟩ := Option.map_eq_some_iff.mp e2
          cases e4
          exact a.c (cSettle_lo l1 e3)
        · cases e2
      · obtain ⟨s2, e3, e4⟩ := Option.map_eq_some_iff.mp e2
        cases e4
        exact a.c (cSettle_lo l1 e3)
    · cases e; exact a
  · cases e
theorem sBeg_lo {G : PgS} {B : Bg} : sStl G (sBeg G B S) := by
  intro p hp hg
  have e : (sBeg G B S).1 p = cBeg (16 + (B p).2.1) (B p).2.2.1 (B p).2.2.2 (S.1 p) := if_pos hg
  rw [e]
  exact ⟨Or.inr rfl, fun z => absurd z (by show ¬ (1 : Int32) = 0; decide)⟩
end
