/-! (S): PAR: a branch ends -/
section
variable {C : Cx} {M : Nat} {E : En} {s s' : Cr} {w w' : Wd} {g : Gh} {Q : Thr} {t u b : Nat} {th tu tb : Th} {R : Nat → Sg → Prop} {j : Nat} {z : Sg}
/-- t is no more, u has what it had -/
def qRm (Q : Thr) (t u : Nat) (tu : Th) : Thr := fun b => if b = t then none else if b = u then some tu else Q b
def gRm (g : Gh) (t u : Nat) : Gh := (fun x => if g.1 x = t then u else g.1 x, fun x => if g.1 x = t then 1 else g.2.1 x, fun x => if g.2.2.1 x = t then u else g.2.2.1 x, fun x => if g.2.2.2 x = t then u else g.2.2.2 x)
def kEr (tu : Th) (t : Nat) : Th := (thF tu, tu.2.1, tu.2.2.1, thA tu, (thK tu).erase t, thO tu)
theorem qRm_u (h : u ≠ t) : qRm Q t u tb u = some tb := by
  unfold qRm
  rw [if_neg h, if_pos rfl]
theorem qRm_n {x : Nat} (h : x ≠ t) (h' : x ≠ u) : qRm Q t u tb x = Q x := by
  unfold qRm
  rw [if_neg h, if_neg h']
theorem rmv {W j : Nat} {z : Sg} {ru : List Nat} {X : Nat} {Wu ju : Nat} {zu : Sg} {rfu : List Fm} (I : Inv C M s w g Q E) (e : Q t = some th) (e0 : thS th = 0) (ef : thF th = [(W, j, z)]) (k : thK th = []) (nl : (zL z).2.1 = []) (eA : thA th = u :: ru) (eu : Q u = some tu) (fu : thF tu = (Wu, ju, zu) :: rfu) (hA : thA tu = ru) (kt : t ∈ thK tu)
    (er : ∀ i, i = 5 ∨ i = 15 ∨ (22 ≤ i ∧ i ≤ 27) → s'.1 i = s.1 i) (e14 : s'.1 14 = 0) (eq : s'.2.2 = s.2.2) (hX : (X : Int) = Wu + (thO tu).1 + 1) (em : ∀ x, x ≠ X → s'.2.1 x = s.2.1 x) (mx : s'.2.1 X = nI ((thK tu).length - 1)) : Inv C M s' w (gRm g t u) (qRm Q t u (kEr tu t)) E := by
  obtain ⟨i4, i5, i6, i7, i8, i9, i10, i11, i12, i13⟩ := I.2.2.2.1
  have ut : u ≠ t := fun y => by
    subst y
    rw [e] at eu
    cases eu
    rw [k] at kt
    exact nomatch kt
  have kn : thK tu ≠ [] := fun y => by rw [y] at kt; exact nomatch kt
  have us : thS tu = 5 ∨ thS tu = 7 := by
    rcases par_s I eu kt with y | y | y
    · exact (ut (i5 u tu t th eu e y e0)).elim
    · exact Or.inl y
    · exact Or.inr y
  obtain ⟨W0, j0, z0, r0, a1, a2, a3, a4, a5, a6, a7, a8, a9, a10, a11, ⟨pA, pB, pC⟩, a13, a14⟩ := I.2.1 u tu eu
  rw [fu] at a1
  cases a1
  obtain ⟨⟨hk1, hk3⟩, hk2⟩ := pB kn
  obtain ⟨o1, o2, o3, o4, o5, o6, o7⟩ := hk1
  have X4 : g.2.1 X = 4 ∧ g.1 X = u := by
    have := o2 1 (by omega)
    rw [show ((Wu : Int) + (thO tu).1 + (1 : Nat)).toNat = X by omega] at this
    exact this.2
  have t5 := t_5 I e
  -- below
  have belR : ∀ b y, b ≠ t → bel Q b y → bel (qRm Q t u (kEr tu t)) b (if y = t then u else y) := by
    intro b y hb h
    rcases h with h | ⟨ty, h1, h2⟩
    · subst h
      rw [if_neg hb]
      exact Or.inl rfl
    · by_cases c : y = t
      · subst c
        rw [if_pos rfl]
        rw [e] at h1
        cases h1
        rw [eA] at h2
        rcases List.mem_cons.mp h2 with q | q
        · exact Or.inl q.symm
        · exact Or.inr ⟨_, qRm_u ut, by show b ∈ thA tu; rw [hA]; exact q⟩
      · rw [if_neg c]
        by_cases c2 : y = u
        · subst c2
          rw [eu] at h1
          cases h1
          exact Or.inr ⟨_, qRm_u ut, h2⟩
        · exact Or.inr ⟨ty, (qRm_n c c2).trans h1, h2⟩
  have own : ∀ b tb x, b ≠ t → Q b = some tb → g.1 x ∈ b :: thA tb → g.1 x ≠ t := by
    intro b tb x hb eb hx y
    rw [y] at hx
    rcases List.mem_cons.mp hx with q | q
    · exact hb q.symm
    · exact no_d' I e k eb q
  have kg : ∀ b tb x, b ≠ t → Q b = some tb → g.1 x ∈ b :: thA tb → (gRm g t u).1 x = g.1 x ∧ (gRm g t u).2.1 x = g.2.1 x := fun b tb x hb eb hx => ⟨if_neg (own b tb x hb eb hx), if_neg (own b tb x hb eb hx)⟩
  have n4 : ∀ x, g.2.1 x ≠ 4 → s'.2.1 x = s.2.1 x := fun x hx => em x fun y => by rw [y] at hx; exact hx X4.1
  have w2 : ∀ b tb, Q b = some tb → thS tb = 2 ∨ thS tb = 3 → g.2.1 (thC tb) = 2 := fun b tb eb hs => by
    rcases hs with hs | hs
    · exact (w2_tk I eb hs).2
    · exact (w3_sd I eb hs).2
  have nt : ∀ c, ¬ dsC s th c := by
    rintro c ⟨W1, j1, z1, r1, d1, d2, d3⟩
    rw [ef] at d1
    cases d1
    rcases d3 with ⟨d, -⟩ | ⟨d, -⟩ | ⟨-, d⟩
    · omega
    · omega
    · exact aE_ne d nl
  -- the one above
  have tokU : tOK C M s' w (gRm g t u) (qRm Q t u (kEr tu t)) u (kEr tu t) := by
    have sb : stb (fun _ => True) s.2.1 s'.2.1 g (gRm g t u) Q (qRm Q t u (kEr tu t)) (u :: thA tu) u := ⟨fun x _ _ h => n4 x (by omega), fun x _ hx => kg u tu x ut eu hx, fun x _ _ _ => ⟨belR u _ ut, belR u _ ut⟩⟩
    have wk0 := (a5 (Wu, ju, zu) (by rw [fu]; exact List.mem_cons_self)).2.2.2.1
    have fm := wk_m (P := fun _ => True) (m' := s'.2.1) wk0 (fun _ _ => trivial) (fun x _ _ x3 => n4 x (by omega))
    have cU : ∀ x, x ≤ Wu → s'.2.1 x = s.2.1 x := fun x hx => em x (by omega)
    have kK : thK (kEr tu t) = (thK tu).erase t := rfl
    have kmem : ∀ c, c ∈ (thK tu).erase t ↔ c ≠ t ∧ c ∈ thK tu := fun c => a8.1.mem_erase_iff
    have kid : ∀ c ∈ (thK tu).erase t, qRm Q t u (kEr tu t) c = Q c := fun c hc => qRm_n ((kmem c).mp hc).1 (kid_ne I eu ((kmem c).mp hc).2)
    have kok : thS tu ≠ 5 → kOK (qRm Q t u (kEr tu t)) (kEr tu t) := by
      intro n5
      obtain ⟨c1, c, hc, tc, c2, c3⟩ := hk2 n5
      have ct : c ≠ t := fun y => by
        subst y
        have := c1 c hc tc c2 c3
        rw [e] at c2
        cases c2
        omega
      have hc' : c ∈ (thK tu).erase t := (kmem c).mpr ⟨ct, hc⟩
      refine ⟨fun c hc tc etc ep => ?_, c, hc', tc, (kid c hc').trans c2, c3⟩
      rw [kid c hc] at etc
      exact c1 c ((kmem c).mp hc).2 tc etc ep
    refine ⟨Wu, ju, zu, rfu, fu, a2, a3, a4, fun f hf => fOK_mv (th' := tu) (a5 f hf) rfl rfl (fun _ _ => trivial) (fun _ _ => trivial) sb, ?_, fun x x1 x2 => belR u _ ut (a7 x x1 x2), ?_, ?_, fun hs => ?_, a11, ⟨fun n5 y => ?_, fun ne => ⟨⟨⟨o1, fun i hi => ?_, ?_, ?_, ?_, o6, o7⟩, hk3⟩, kok⟩, fun y n5 => ⟨⟨?_, (pC y n5).1.2⟩, fun p hp => ?_⟩⟩, ctl_mv a13 (fun kk _ hx => kg u tu _ ut eu (by rw [hx]; exact List.mem_cons_self)), a14⟩
    · show lnk C s' (gRm g t u) u (thF tu)
      rw [fu] at a6 ⊢
      exact lnk_mv (P := fun x => Wu + (zI zu).2 ≤ x) (fun x hx _ _ => em x (by omega)) (fun x _ hx => kg u tu x ut eu (by rw [hx]; exact List.mem_cons_self)) _ (fun f r' hf a ha => by cases hf; exact ha) a6
    · obtain ⟨u1, u2, u3, f, u4, u5, u6⟩ := a8
      refine ⟨u1.erase t, fun c hc => ?_, u3, f, u4, u5, ?_⟩
      · obtain ⟨tc, c1, c2⟩ := u2 c ((kmem c).mp hc).2
        exact ⟨tc, (kid c hc).trans c1, c2⟩
      · show match thA tu with
          | [] => (zU f.2.2).1 = 0
          | u' :: r => (zU f.2.2).1 = 2 ∧ ∃ tu' fu' ru', qRm Q t u (kEr tu t) u' = some tu' ∧ thA tu' = r ∧ u ∈ thK tu' ∧ thF tu' = fu' :: ru' ∧ (fu'.1 : Int) = f.1 + (zU f.2.2).2.1 ∧ (thO tu').1 = (zU f.2.2).2.2
        revert u6 u3
        cases thA tu with
        | nil => exact fun _ y => y
        | cons uu r =>
          rintro u3 ⟨y1, tu', fu', ru', y2, y3, y4, y5⟩
          refine ⟨y1, tu', fu', ru', ?_, y3, y4, y5⟩
          rw [qRm_n (fun y => ?_) (fun y => u3 (by rw [y]; exact List.mem_cons_self))]
          · exact y2
          · subst y
            rw [e] at y2
            cases y2
            rw [k] at y4
            exact nomatch y4
    · unfold sOK at a9 ⊢
      have eS : thS (kEr tu t) = thS tu := rfl
      rw [eS]
      rcases us with y | y
      · rw [y] at a9 ⊢
        exact a9
      · rw [y] at a9 ⊢
        obtain ⟨y1, y2, y3, y4, y5, y6⟩ := a9
        refine ⟨y1, by rw [eq]; exact y2, by rw [er 22 (by omega)]; exact y3, by rw [er 23 (by omega)]; exact y4, by rw [cU _ (by omega), er 27 (by omega)]; exact y5, ?_⟩
        rw [er 24 (by omega), er 25 (by omega), er 26 (by omega)]
        exact rOK_mv y6 fm
    · have hs : thS tu = 0 ∨ thS tu = 1 ∨ thS tu = 4 ∨ thS tu = 7 := hs
      show aOK C s' w (gRm g t u) (u :: thA tu) u Wu zu (thP tu) (thS tu)
      exact aOK_mv (a10 hs) (fun x _ h => n4 x (by omega)) (fun x hx => kg u tu x ut eu hx) (fun x _ _ hx => by show (if g.2.2.2 x = t then u else g.2.2.2 x) = u; rw [hx, if_neg ut]) ⟨cU _ (by omega), cU _ (by omega)⟩ (fun _ x _ x2 _ => by unfold hasC; rw [n4 x (by omega)]; exact id)
    · exact (kn (pA n5 y)).elim
    · obtain ⟨y1, y2, y3⟩ := o2 i hi
      exact ⟨y1, (if_neg (fun y => ut (y3.symm.trans y))).trans y2, (if_neg (fun y => ut (y3.symm.trans y))).trans y3⟩
    · rw [em _ (by show ((Wu : Int) + (thO tu).1).toNat ≠ X; omega)]; exact o3
    · show s'.2.1 ((Wu : Int) + (thO tu).1 + 1).toNat = nI ((thK tu).erase t).length
      rw [show ((Wu : Int) + (thO tu).1 + 1).toNat = X by omega, mx, List.length_erase_of_mem kt]
    · rw [em _ (by show ((Wu : Int) + (thO tu).1 + 2).toNat ≠ X; omega)]; exact o5
    · obtain ⟨-, c, hc, -⟩ := kok n5
      exact fun y => by rw [y] at hc; exact nomatch hc
    · obtain ⟨b1, c, hc, tc, zc, b2, b3⟩ := (pC y n5).2 p hp
      have ct : c ≠ t := fun y => by
        subst y
        rw [e] at b2
        cases b2
        omega
      have hc' : c ∈ (thK tu).erase t := (kmem c).mpr ⟨ct, hc⟩
      exact ⟨b1, c, hc', tc, zc, (kid c hc').trans b2, b3⟩
  have back : ∀ b tb, qRm Q t u (kEr tu t) b = some tb → b ≠ t ∧ ((b = u ∧ tb = kEr tu t) ∨ (b ≠ u ∧ Q b = some tb)) := by
    intro b tb hb
    by_cases c : b = t
    · subst c
      unfold qRm at hb
      rw [if_pos rfl] at hb
      exact nomatch hb
    · refine ⟨c, ?_⟩
      by_cases c2 : b = u
      · subst c2
        rw [qRm_u ut] at hb
        exact Or.inl ⟨rfl, (Option.some.inj hb).symm⟩
      · rw [qRm_n c c2] at hb
        exact Or.inr ⟨c2, hb⟩
  refine ⟨⟨(er 5 (by omega)).trans I.1.1, I.1.2⟩, fun b tb hb => ?_, fun c hc => ?_, ?_, ?_, ?_, ?_⟩
  · obtain ⟨bt, ⟨y1, y2⟩ | ⟨bu, eb⟩⟩ := back b tb hb
    · subst y1
      subst y2
      exact tokU
    · refine keep (I.2.1 b tb eb) (fun x _ h => n4 x (by omega)) (fun x h1 h2 => em x fun y => bu (by rw [← h1, y]; exact X4.2)) (fun x hx => kg b tb x bt eb hx) (fun x _ _ => ⟨belR b _ bt, belR b _ bt⟩) (fun x _ _ => ⟨fun y _ => ?_, fun y _ => ?_⟩) (fun x _ _ => belR b _ bt) (fun h => (bt (i5 b tb t th eb e h e0)).elim) (fun f r _ => by rw [eq]; exact ⟨id, id⟩) (fun hs => n4 _ (by have := w2 b tb eb hs; omega)) (fun _ => ⟨fun i h1 h2 => er i (by omega), by rw [eq]⟩) (fun W j z r x _ _ _ x2 _ => by unfold hasC; rw [n4 x (by omega)]; exact id) (fun c hc tc etc => ?_) (fun v tv hv ev hbv => ?_)
      · show (if g.2.2.1 x = t then u else g.2.2.1 x) = b
        rw [y, if_neg bt]
      · show (if g.2.2.2 x = t then u else g.2.2.2 x) = b
        rw [y, if_neg bt]
      · have ct : c ≠ t := fun y => by
          subst y
          exact bu (par_1 I eb eu hc kt)
        by_cases cu : c = u
        · subst cu
          rw [eu] at etc
          cases etc
          exact ⟨kEr tu t, qRm_u ut, rfl, rfl, fun _ _ y => y, fun _ _ _ _ _ _ _ h8 => by omega⟩
        · exact ⟨tc, (qRm_n ct cu).trans etc, rfl, rfl, fun _ _ y => y, fun _ _ _ _ _ _ _ _ _ _ _ => rfl⟩
      · have vt : v ≠ t := fun y => by
          subst y
          rw [e] at ev
          cases ev
          rw [k] at hbv
          exact nomatch hbv
        by_cases vu : v = u
        · subst vu
          rw [eu] at ev
          cases ev
          exact ⟨kEr tu t, qRm_u ut, rfl, a8.1.mem_erase_iff.mpr ⟨bt, hbv⟩, rfl, fun f r hf => ⟨f, r, hf, rfl⟩⟩
        · exact ⟨tv, (qRm_n vt vu).trans ev, rfl, hbv, rfl, fun f r hf => ⟨f, r, hf, rfl⟩⟩
  · have hc : (if g.1 c = t then 1 else g.2.1 c) = 2 := hc
    have ct : g.1 c ≠ t := fun y => by rw [if_pos y] at hc; exact absurd hc (by decide)
    rw [if_neg ct] at hc
    refine ⟨(I.2.2.1 c hc).1, ?_⟩
    have ec := n4 c (by omega)
    rcases (I.2.2.1 c hc).2 with y | ⟨b, tb, eb, d⟩
    · exact Or.inl (ec.trans y)
    · have bt : b ≠ t := fun y => by
        subst y
        rw [e] at eb
        cases eb
        exact nt c d
      have mv : dsC s' tb c := by
        obtain ⟨W1, j1, z1, r1, d1, d2, d3⟩ := d
        refine ⟨W1, j1, z1, r1, d1, ec.trans d2, ?_⟩
        rcases d3 with d3 | d3 | ⟨d3, d4⟩
        · exact Or.inl d3
        · exact Or.inr (Or.inl d3)
        · obtain ⟨W2, j2, z2, r2, b1, -, -, -, -, -, -, -, -, b10, -⟩ := I.2.1 b tb eb
          rw [d1] at b1
          cases b1
          exact Or.inr (Or.inr ⟨d3, aEn_mv (b10 d3 (aE_ne d4)).1 d4 (fun x _ h => n4 x (by omega))⟩)
      by_cases bu : b = u
      · subst bu
        rw [eu] at eb
        cases eb
        exact Or.inr ⟨b, _, qRm_u ut, mv⟩
      · exact Or.inr ⟨b, tb, (qRm_n bt bu).trans eb, mv⟩
  · have bk : ∀ b tb, qRm Q t u (kEr tu t) b = some tb → b ≠ t ∧ ∃ tb0, Q b = some tb0 ∧ tb.2.1 = tb0.2.1 := by
      intro b tb hb
      obtain ⟨bt, ⟨y1, y2⟩ | ⟨bu, eb⟩⟩ := back b tb hb
      · subst y1
        subst y2
        exact ⟨bt, tu, eu, rfl⟩
      · exact ⟨bt, tb, eb, rfl⟩
    have fw : ∀ b tb0, Q b = some tb0 → b ≠ t → ∃ tb, qRm Q t u (kEr tu t) b = some tb ∧ tb.2.1 = tb0.2.1 ∧ thF tb = thF tb0 := by
      intro b tb0 eb bt
      by_cases bu : b = u
      · subst bu
        rw [eu] at eb
        cases eb
        exact ⟨_, qRm_u ut, rfl, rfl⟩
      · exact ⟨tb0, (qRm_n bt bu).trans eb, rfl, rfl⟩
    refine ⟨fun y => (y e14).elim, fun b tb b' tb' hb hb' z1 z2 => ?_, fun b tb b' tb' hb hb' z1 z2 => ?_, fun n hn => ?_, fun n hn => ?_, by rw [eq]; exact i9, by rw [eq]; exact i10, fun y => ?_, fun y => (y e14).elim, ?_⟩
    · obtain ⟨b1, b2, b3, b4⟩ := bk b tb hb
      exact (b1 (i5 b b2 t th b3 e (by show b2.2.1.1 = 0; rw [← b4]; exact z1) e0)).elim
    · obtain ⟨b1, b2, b3, b4⟩ := bk b tb hb
      obtain ⟨c1, c2, c3, c4⟩ := bk b' tb' hb'
      exact i6 b b2 b' c2 b3 c3 (by show b2.2.1.1 = 7; rw [← b4]; exact z1) (by show c2.2.1.1 = 7; rw [← c4]; exact z2)
    · rw [eq] at hn
      obtain ⟨b, tb, j0, r0, k1, k2, k3, k4⟩ := i7 n hn
      have ct : b ≠ t := fun z => by subst z; rw [e] at k1; cases k1; omega
      obtain ⟨tb', l1, l2, l3⟩ := fw b tb k1 ct
      exact ⟨b, tb', j0, r0, l1, by show tb'.2.1.1 = 1; rw [l2]; exact k2, by show tb'.2.1.2.2 = 0; rw [l2]; exact k3, l3.trans k4⟩
    · rw [eq] at hn
      obtain ⟨b, tb, j0, r0, k1, k2, k3, k4⟩ := i8 n hn
      have ct : b ≠ t := fun z => by subst z; rw [e] at k1; cases k1; omega
      obtain ⟨tb', l1, l2, l3⟩ := fw b tb k1 ct
      exact ⟨b, tb', j0, r0, l1, by show tb'.2.1.1 = 1 ∨ tb'.2.1.1 = 7; rw [l2]; exact k2, by show tb'.2.1.2.2 = 1; rw [l2]; exact k3, l3.trans k4⟩
    · obtain ⟨b, tb, k1, k2⟩ := i11 (by rw [← er 22 (by omega)]; exact y)
      have ct : b ≠ t := fun z => by subst z; rw [e] at k1; cases k1; omega
      obtain ⟨tb', l1, l2, l3⟩ := fw b tb k1 ct
      exact ⟨b, tb', l1, by show tb'.2.1.1 = 7; rw [l2]; exact k2⟩
    · unfold lo
      rw [er 15 (by omega)]
      exact i13
  · obtain ⟨u1, -⟩ := I.2.2.2.2
    intro c hc
    obtain ⟨y1, y2⟩ := u1 c hc
    refine ⟨fun y => ?_, fun y => ?_⟩
    · show (if g.2.2.1 c = t then u else g.2.2.1 c) = 5000
      rw [y1 y, if_neg (fun y => t5 y.symm)]
    · show (if g.2.2.2 c = t then u else g.2.2.2 c) = 5000
      rw [y2 y, if_neg (fun y => t5 y.symm)]
  · obtain ⟨-, u2, -⟩ := I.2.2.2.2
    intro c hc ec
    obtain ⟨d1, d2⟩ := u2 c hc ec
    refine ⟨fun y => ?_, fun y => ?_⟩
    · obtain ⟨y1, y2, y3⟩ := d1 y
      refine ⟨y1, y2, fun b tb hb b3 => ?_⟩
      obtain ⟨bt, ⟨x1, x2⟩ | ⟨bu, eb⟩⟩ := back b tb hb
      · subst x2
        have b3 : thS tu = 3 := b3
        omega
      · exact y3 b tb eb b3
    · obtain ⟨b, tb, eb, b3, bc⟩ := d2 y
      have bt : b ≠ t := fun y => by subst y; rw [e] at eb; cases eb; omega
      have bu : b ≠ u := fun y => by subst y; rw [eu] at eb; cases eb; omega
      exact ⟨b, tb, (qRm_n bt bu).trans eb, b3, bc⟩
  · intro b tb hb h2
    obtain ⟨bt, ⟨x1, x2⟩ | ⟨bu, eb⟩⟩ := back b tb hb
    · subst x2
      have h2 : thS tu = 2 := h2
      omega
    · exact I.2.2.2.2.2.2 b tb eb h2
theorem nFr_R (ut : u ≠ t) (eu : Q u = some tu) : nFr R Q (qRm Q t u (kEr tu t)) := by
  refine ⟨?_, fun _ => ⟨u, _, qRm_u ut⟩⟩
  intro b tb f hb hf
  unfold qRm at hb
  split at hb
  · exact nomatch hb
  · split at hb
    · cases hb
      exact Or.inr ⟨u, tu, f, eu, hf, rfl⟩
    · exact Or.inr ⟨b, tb, f, hb, hf, rfl⟩
theorem nd_ln : ∀ (K L : List Nat), K.Nodup → (∀ k, k ∈ K → k ∈ L) → K.length ≤ L.length := by
  intro K
  induction K with
  | nil => intro L _ _; exact Nat.zero_le _
  | cons a K ih =>
    intro L h1 h2
    rw [List.nodup_cons] at h1
    have ha := h2 a List.mem_cons_self
    have := ih (L.erase a) h1.2 (fun x hx => (List.mem_erase_of_ne (fun y : x = a => h1.1 (y ▸ hx))).mpr (h2 x (List.mem_cons_of_mem _ hx)))
    rw [List.length_erase_of_mem ha] at this
    have : 0 < L.length := List.length_pos_of_mem ha
    rw [List.length_cons]
    omega
/-- a branch ends -/
theorem i_endp {n1 : Nat} {d q : Int} (hC : C.1 j = some (15, nI 17)) (nl : (zL z).2.1 = []) (z0 : (zR z).1 = 0) (hU : zU z = (2, d, q)) (ha : (zA z).1 = (2, n1, d + q)) : rul C M E R j z := by
  refine ⟨15, nI 17, hC, fun s w g Q t th W r I hw e e0 ef h11 => ?_⟩
  obtain ⟨hE, hr⟩ := fE_i I e e0 ef
  have hM := I.1.2
  have k := kid_0 I e e0 ef z0
  obtain ⟨W0, j0, z0', r0, a1, a2, a3, a4, a5, a6, a7, a8, a9, a10, a11, a12, a13, a14⟩ := I.2.1 t th e
  rw [ef] at a1
  cases a1
  have rn : r = [] := by
    rw [ef] at a6
    cases r with
    | nil => rfl
    | cons f1 r =>
      have : (zU z).1 = 1 := a6.1
      rw [hU] at this
      exact absurd (show (2 : Nat) = 1 from this) (by decide)
  subst rn
  obtain ⟨u1, u2, u3, f, u4, u5, u6⟩ := a8
  rw [ef] at u4
  have u4 : (W, j, z) = f := Option.some.inj u4
  subst u4
  have Wt : W = t := u5
  have gA : ∃ u ru, thA th = u :: ru := by
    revert u6
    cases thA th with
    | nil =>
      intro y
      have y : (zU z).1 = 0 := y
      rw [hU] at y
      exact absurd (show (2 : Nat) = 0 from y) (by decide)
    | cons u ru => exact fun _ => ⟨u, ru, rfl⟩
  obtain ⟨u, ru, eA⟩ := gA
  rw [eA] at u6
  obtain ⟨-, tu, fu, rfu, eu, hA, kt, ff, fW, fO⟩ := u6
  obtain ⟨Wu, ju, zu⟩ := fu
  have fW : (Wu : Int) = W + (zU z).2.1 := fW
  have fO : (thO tu).1 = (zU z).2.2 := fO
  rw [hU] at fW fO
  have fW : (Wu : Int) = W + d := fW
  have fO : (thO tu).1 = q := fO
  obtain ⟨hWu, hWuM, pu, ctu⟩ := W_M I eu ff
  have kn : thK tu ≠ [] := fun y => by rw [y] at kt; exact nomatch kt
  obtain ⟨V0, k0', y0, x0, v1, v2, v3, v4, v5, v6, v7, v8, v9, v10, v11, ⟨pA, pB, pC⟩, v13, v14⟩ := I.2.1 u tu eu
  rw [ff] at v1
  cases v1
  obtain ⟨⟨⟨o1, o2, o3, o4, o5, o6, o7⟩, -⟩, hk2⟩ := pB kn
  rw [fO] at o1 o3 o4 o5
  -- the header's address
  have hd : ∃ H : Nat, (H : Int) = Wu + q ∧ Wu < H ∧ H + 2 < M := by
    have h2 := (o2 2 (by omega)).1
    rw [fO] at h2
    exact ⟨(Wu + q).toNat, by omega, by omega, by omega⟩
  obtain ⟨H, hH, hH1, hH2⟩ := hd
  rw [show ((Wu : Int) + q).toNat = H by omega] at o3
  rw [show ((Wu : Int) + q + 1).toNat = H + 1 by omega] at o4
  rw [show ((Wu : Int) + q + 2).toNat = H + 2 by omega] at o5
  have val8 : s.1 8 = nI H := by
    have := hr.1
    rw [ha] at this
    have : (s.1 8).toInt = W + (d + q) := this
    exact Int32.toInt_inj.mp (by rw [this, nI_toInt (by omega)]; omega)
  have len1 : 1 ≤ (thK tu).length := by
    cases hk : thK tu with
    | nil => exact (kn hk).elim
    | cons a l => rw [List.length_cons]; omega
  have lenM : (thK tu).length < 2 ^ 31 := by
    have := nd_ln (thK tu) (List.range 5000) v8.1 (fun x hx => by
      rw [List.mem_range]
      obtain ⟨tc, c1, -⟩ := v8.2.1 x hx
      have := t_lt I c1
      omega)
    rw [List.length_range] at this
    omega
  have un : xI (sR (rdB s) 13 0) w 15 (nI 17) = (if nI ((thK tu).length - 1) = 0 then (if H = H + 1 ∨ H + 2 = H + 1 ∨ Wu - 1 = H ∨ Wu - 1 = H + 1 ∨ Wu - 1 = H + 2 then none else (cReady (sM (sM (sM (sR (rdB s) 13 0) (H + 1) 0) (Wu - 1) (nI (C.2 (thO tu).2))) (Wu - 3) 0) (nI (2 * Wu + thP tu))).map fun s => (sR s 14 0, w)) else some (sR (sM (sR (rdB s) 13 0) (H + 1) (nI ((thK tu).length - 1))) 14 0, w)) := by
    have x0 : adM (sR (rdB s) 13 0) (nI H) = some H := ad_n hE.1 (by omega)
    have x1 : adM (sR (rdB s) 13 0) (nI H + 1) = some (H + 1) := by rw [show (1 : Int32) = nI 1 from rfl, nI_add]; exact ad_n hE.1 (by omega)
    have x2 : adM (sR (rdB s) 13 0) (nI H + 2) = some (H + 2) := by rw [show (2 : Int32) = nI 2 from rfl, nI_add]; exact ad_n hE.1 (by omega)
    have y1 : adM (sR (rdB s) 13 0) (nI (2 * Wu + thP tu) / 2 - 1) = some (Wu - 1) := by rw [show (1 : Int32) = nI 1 from rfl]; exact ds_ad hE.1 pu (by omega) (by omega) (by omega)
    have y3 : adM (sR (rdB s) 13 0) (nI (2 * Wu + thP tu) / 2 - 3) = some (Wu - 3) := by rw [show (3 : Int32) = nI 3 from rfl]; exact ds_ad hE.1 pu (by omega) (by omega) (by omega)
    have m1 : s.2.1 (H + 1) - 1 = nI ((thK tu).length - 1) := by rw [o4, show (1 : Int32) = nI 1 from rfl, nI_sub len1]
    rw [x_sch (by decide) (by decide)]
    show (adM (sR (rdB s) 13 0) (s.1 8)).bind (fun x0 => (adM (sR (rdB s) 13 0) (s.1 8 + 1)).bind fun x1 => (adM (sR (rdB s) 13 0) (s.1 8 + 2)).bind fun x2 =>
      if s.2.1 x1 - 1 = 0 then
        if mj_in (s.2.1 x2) 8032 then (adM (sR (rdB s) 13 0) (s.2.1 x2 / 2 - 1)).bind fun y1 => (adM (sR (rdB s) 13 0) (s.2.1 x2 / 2 - 3)).bind fun y3 => if x0 = x1 ∨ x2 = x1 ∨ y1 = x0 ∨ y1 = x1 ∨ y1 = x2 then none else (cReady (sM (sM (sM (sR (rdB s) 13 0) x1 0) y1 (s.2.1 x0)) y3 0) (s.2.1 x2)).map fun s => (sR s 14 0, w)
        else none
      else some (sR (sM (sR (rdB s) 13 0) x1 (s.2.1 x1 - 1)) 14 0, w)) = _
    rw [val8, x0, x1, x2]
    show (if s.2.1 (H + 1) - 1 = 0 then
        if mj_in (s.2.1 (H + 2)) 8032 then (adM (sR (rdB s) 13 0) (s.2.1 (H + 2) / 2 - 1)).bind fun y1 => (adM (sR (rdB s) 13 0) (s.2.1 (H + 2) / 2 - 3)).bind fun y3 => if H = H + 1 ∨ H + 2 = H + 1 ∨ y1 = H ∨ y1 = H + 1 ∨ y1 = H + 2 then none else (cReady (sM (sM (sM (sR (rdB s) 13 0) (H + 1) 0) y1 (s.2.1 H)) y3 0) (s.2.1 (H + 2))).map fun s => (sR s 14 0, w)
        else none
      else some (sR (sM (sR (rdB s) 13 0) (H + 1) (s.2.1 (H + 1) - 1)) 14 0, w)) = _
    rw [m1, o5, if_pos (ds_in pu (by omega)), y1, y3, o3]
    rfl
  have er0 : ∀ (v : Int32) i, i = 5 ∨ i = 15 ∨ (22 ≤ i ∧ i ≤ 27) → (sR (sM (sR (rdB s) 13 0) (H + 1) v) 14 0).1 i = s.1 i := by
    intro v i hi
    show (if i = 14 then _ else (sR (rdB s) 13 0).1 i) = _
    rw [if_neg (by omega)]
    exact rd_r i (by omega)
  have I1 : ∀ v : Int32, v = nI ((thK tu).length - 1) → Inv C M (sR (sM (sR (rdB s) 13 0) (H + 1) v) 14 0) w (gRm g t u) (qRm Q t u (kEr tu t)) E := fun v hv => rmv I e e0 ef k nl eA eu ff hA kt (er0 v) rfl rfl (X := H + 1) (by rw [fO]; omega) (fun x hx => if_neg hx) ((if_pos rfl).trans hv)
  have ut : u ≠ t := fun y => by
    subst y
    rw [e] at eu
    cases eu
    rw [k] at kt
    exact nomatch kt
  rw [un]
  by_cases l0 : nI ((thK tu).length - 1) = 0
  · have l1 : (thK tu).length = 1 := by
      have y := congrArg Int32.toInt l0
      rw [nI_toInt (by omega), show ((0 : Int32)).toInt = 0 from rfl] at y
      omega
    rw [if_pos l0, if_neg (by omega)]
    have er1 : (thK tu).erase t = [] := List.length_eq_zero_iff.mp (by rw [List.length_erase_of_mem kt]; omega)
    have n5 : thS tu = 5 := Classical.byContradiction fun y => by
      obtain ⟨c1, c, hc, tc, c2, c3⟩ := hk2 y
      have ct : c ≠ t := fun y => by
        subst y
        have := c1 c hc tc c2 c3
        rw [e] at c2
        cases c2
        omega
      have : c ∈ (thK tu).erase t := v8.1.mem_erase_iff.mpr ⟨ct, hc⟩
      rw [er1] at this
      exact nomatch this
    have jb := o6 n5
    have jb : ju = (thO tu).2 := jb
    have ra : rAny zu ∧ (zR zu).1 = 0 := by
      unfold sOK at v9
      rw [n5] at v9
      exact v9
    have nlu := v11 (by omega)
    have J := I1 0 l0.symm
    have eu1 : qRm Q t u (kEr tu t) u = some (kEr tu t) := qRm_u ut
    have rl : (sM (sM (sM (sR (rdB s) 13 0) (H + 1) 0) (Wu - 1) (nI (C.2 (thO tu).2))) (Wu - 3) 0).2.2.1.length + (sM (sM (sM (sR (rdB s) 13 0) (H + 1) 0) (Wu - 1) (nI (C.2 (thO tu).2))) (Wu - 3) 0).2.2.2.length < 1090 := row_lt (s := s) I
    rw [rd_ok pu (by omega) rl, rap_eq]
    refine ⟨_, w, rfl, Or.inl rfl, gRm g t u, qU (qRm Q t u (kEr tu t)) u (thN (kEr tu t) 1 0), ?_, (nFr_R ut eu).tr (nFr_N eu1)⟩
    have mm : ∀ x, x ≠ Wu - 1 → x ≠ Wu - 3 → (sR (sQ (sM (sM (sM (sR (rdB s) 13 0) (H + 1) 0) (Wu - 1) (nI (C.2 (thO tu).2))) (Wu - 3) 0) (rAp (sM (sM (sM (sR (rdB s) 13 0) (H + 1) 0) (Wu - 1) (nI (C.2 (thO tu).2))) (Wu - 3) 0) (thP tu) Wu).1 (rAp (sM (sM (sM (sR (rdB s) 13 0) (H + 1) 0) (Wu - 1) (nI (C.2 (thO tu).2))) (Wu - 3) 0) (thP tu) Wu).2) 14 0).2.1 x = (sR (sM (sR (rdB s) 13 0) (H + 1) 0) 14 0).2.1 x := by
      intro x y1 y2
      show (if x = Wu - 3 then _ else if x = Wu - 1 then _ else (sM (sR (rdB s) 13 0) (H + 1) 0).2.1 x) = _
      rw [if_neg y2, if_neg y1]
      rfl
    have mA : (sR (sQ (sM (sM (sM (sR (rdB s) 13 0) (H + 1) 0) (Wu - 1) (nI (C.2 (thO tu).2))) (Wu - 3) 0) (rAp (sM (sM (sM (sR (rdB s) 13 0) (H + 1) 0) (Wu - 1) (nI (C.2 (thO tu).2))) (Wu - 3) 0) (thP tu) Wu).1 (rAp (sM (sM (sM (sR (rdB s) 13 0) (H + 1) 0) (Wu - 1) (nI (C.2 (thO tu).2))) (Wu - 3) 0) (thP tu) Wu).2) 14 0).2.1 (Wu - 1) = nI (C.2 ju) := by
      show (if Wu - 1 = Wu - 3 then _ else if Wu - 1 = Wu - 1 then _ else _) = _
      rw [if_neg (by omega), if_pos rfl, jb]
    have eq : (sR (sQ (sM (sM (sM (sR (rdB s) 13 0) (H + 1) 0) (Wu - 1) (nI (C.2 (thO tu).2))) (Wu - 3) 0) (rAp (sM (sM (sM (sR (rdB s) 13 0) (H + 1) 0) (Wu - 1) (nI (C.2 (thO tu).2))) (Wu - 3) 0) (thP tu) Wu).1 (rAp (sM (sM (sM (sR (rdB s) 13 0) (H + 1) 0) (Wu - 1) (nI (C.2 (thO tu).2))) (Wu - 3) 0) (thP tu) Wu).2) 14 0).2.2 = rAp (sR (sM (sR (rdB s) 13 0) (H + 1) 0) 14 0) (thP (kEr tu t)) Wu := rfl
    have er : ∀ i, (sR (sQ (sM (sM (sM (sR (rdB s) 13 0) (H + 1) 0) (Wu - 1) (nI (C.2 (thO tu).2))) (Wu - 3) 0) (rAp (sM (sM (sM (sR (rdB s) 13 0) (H + 1) 0) (Wu - 1) (nI (C.2 (thO tu).2))) (Wu - 3) 0) (thP tu) Wu).1 (rAp (sM (sM (sM (sR (rdB s) 13 0) (H + 1) 0) (Wu - 1) (nI (C.2 (thO tu).2))) (Wu - 3) 0) (thP tu) Wu).2) 14 0).1 i = (sR (sM (sR (rdB s) 13 0) (H + 1) 0) 14 0).1 i := fun _ => rfl
    generalize sR (sQ (sM (sM (sM (sR (rdB s) 13 0) (H + 1) 0) (Wu - 1) (nI (C.2 (thO tu).2))) (Wu - 3) 0) (rAp (sM (sM (sM (sR (rdB s) 13 0) (H + 1) 0) (Wu - 1) (nI (C.2 (thO tu).2))) (Wu - 3) 0) (thP tu) Wu).1 (rAp (sM (sM (sM (sR (rdB s) 13 0) (H + 1) 0) (Wu - 1) (nI (C.2 (thO tu).2))) (Wu - 3) 0) (thP tu) Wu).2) 14 0 = s' at mm mA eq er ⊢
    have ff1 : thF (kEr tu t) = (Wu, ju, zu) :: rfu := ff
    obtain ⟨-, -, -, ctu⟩ := W_M J eu1 ff1
    have n4 : ∀ x, (gRm g t u).2.1 x ≠ 4 → s'.2.1 x = (sR (sM (sR (rdB s) 13 0) (H + 1) 0) 14 0).2.1 x := fun x hx => mm x (fun y => by rw [y] at hx; exact hx (ctu 1 (by omega)).1) (fun y => by rw [y] at hx; exact hx (ctu 3 (by omega)).1)
    obtain ⟨l2, l3, l4, l5, l6, l7, l8, l13, l14⟩ := fr_N (st := 1) (c := 0) (s' := s') J eu1 ff1 (fun x _ h => n4 x (by omega)) (fun x _ _ h => mm x (by omega) (by omega))
    have kk : thK (thN (kEr tu t) 1 0) = [] := er1
    refine wake (th' := thN (kEr tu t) 1 0) J eu1 (by show thS tu = 2 ∨ thS tu = 3 ∨ thS tu = 4 ∨ thS tu = 5 ∨ thS tu = 8; omega) rfl rfl rfl ff1 (j' := (ju, zu)) ff1 er eq (fun x hx => ?_) (fun b tb hb eb hs => ?_) (fun b tb Wb jb zb rb x hb eb hf ne _ x2 xt => ?_) (fun y => ?_) ⟨Wu, ju, zu, rfu, ff1, l2, l3, l4, l5, l6, l7, l8, ⟨?_, mA, ra.1⟩, fun _ ne => (ne nlu).elim, fun h => ?_, ⟨fun _ _ => kk, fun ne => (ne kk).elim, fun z1 _ => ?_⟩, l13, l14⟩ (fun c' hc' => Or.inr (Or.inr ⟨n4 c' (by omega), ?_⟩)) (wsO_r eu1 J.2.2.2.2 (fun c _ => ⟨fun y => absurd (show (1 : Nat) = 3 from y.1) (by decide), fun y => ?_⟩) (fun h => absurd (show (1 : Nat) = 2 from h) (by decide)))
    · by_cases y1 : x = Wu - 1
      · subst y1; exact Or.inr (Or.inr ⟨(ctu 1 (by omega)).2, Or.inl (ctu 1 (by omega)).1⟩)
      · by_cases y2 : x = Wu - 3
        · subst y2; exact Or.inr (Or.inr ⟨(ctu 3 (by omega)).2, Or.inl (ctu 3 (by omega)).1⟩)
        · exact (hx (mm x y1 y2)).elim
    · refine n4 _ ?_
      rcases hs with hs | hs
      · have := (w2_tk J eb hs).2; omega
      · have := (w3_sd J eb hs).2; omega
    · unfold hasC
      rw [n4 x (by omega)]
      exact id
    · have y : thS tu = 8 := y
      omega
    · show if thP tu = 0 then Wu ∈ s'.2.2.1 else Wu ∈ s'.2.2.2
      rw [eq]
      unfold rAp
      split
      · rename_i c
        rw [if_pos (show thP (kEr tu t) = 0 from c)]
        exact List.mem_append_right _ List.mem_cons_self
      · rename_i c
        rw [if_neg (show ¬ thP (kEr tu t) = 0 from c)]
        exact List.mem_append_right _ List.mem_cons_self
    · exact absurd (show (1 : Nat) = 2 ∨ (1 : Nat) = 3 ∨ (1 : Nat) = 5 ∨ (1 : Nat) = 8 from h) (by decide)
    · exact (z1 ra.2).elim
    · rintro ⟨W1, j1, z1, r1, d1, d2, d3⟩
      rcases d3 with ⟨y, -⟩ | ⟨y, -⟩ | ⟨y, -⟩
      · have y : thS tu = 2 := y
        omega
      · have y : thS tu = 3 := y
        omega
      · have y : thS tu = 0 ∨ thS tu = 1 ∨ thS tu = 4 ∨ thS tu = 7 := y
        omega
    · have y : thS tu = 3 := y.1
      omega
  · rw [if_neg l0]
    exact ⟨_, w, rfl, Or.inl rfl, gRm g t u, _, I1 _ rfl, nFr_R ut eu⟩
end
