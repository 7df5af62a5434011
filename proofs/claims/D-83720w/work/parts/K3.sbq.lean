/-! (S): the system stays in order -/
/-- wires of a processor -/
def sEn (G : PgS) (p : Nat) : En := (fun c => (c < G.2.2.2.1 ∧ G.2.1 c = p) ∨ (c = 12 ∧ p = 0), fun c => (c < G.2.2.2.1 ∧ G.2.2.1 c = p) ∨ (c = 13 ∧ p = 0))
def okG (G : PgS) : Prop := G.2.2.2.1 ≤ 12 ∧ ∀ l, l < G.2.2.2.1 → G.2.1 l ≠ G.2.2.1 l ∧ G.2.1 l < 6 ∧ G.2.2.1 l < 6
/-- a link that a sender waits for: sent, acknowledged, came, due -/
def lsL : List (Int32 × Int32 × Int32 × Int32) := [(0, 0, 0, 0), (1, 0, 1, 1), (1, 1, 1, 0), (2, 1, 2, 1), (2, 2, 2, 0), (3, 2, 3, 1), (3, 3, 3, 0), (4, 3, 4, 0), (4, 3, 0, 1)]
def lF (w : Wd) (l : Nat) : Int32 × Int32 × Int32 × Int32 := (w.2.1 l 2, w.2.1 l 3, w.2.1 l 4, w.2.1 l 5)
def lSt (w : Wd) (l : Nat) : Prop := (w.2.1 l 0 = 0 ∧ lF w l = (0, 0, 0, 0)) ∨ (¬ w.2.1 l 0 = 0 ∧ lF w l ∈ lsL)
/-- codes and bounds of memory -/
abbrev Xs := Nat → Cx × Nat
def pSt (X : Xs) (G : PgS) (S : Sy) (p : Nat) : Prop := ∃ g Q, Inv (X p).1 (X p).2 (S.1 p) S.2.1 g Q (sEn G p) ∧ aFr (X p).1 (X p).2 (sEn G p) Q
/-- the host: how many outputs, at most -/
def hSt (n : Nat) (w : Wd) : Prop := (∃ k, w.1 4 = nI k ∧ k ≤ n) ∧ 0 ≤ w.1 2 ∧ w.1 1 ≤ 200 ∧ w.1 2 ≤ w.1 1
def SI (X : Xs) (G : PgS) (n : Nat) (S : Sy) : Prop := (∀ p, p < 6 → G.1 p = true → pSt X G S p) ∧ (∀ l, l < G.2.2.2.1 → lSt S.2.1 l ∧ (¬ S.2.1.2.1 l 0 = 0 → G.1 (G.2.1 l) = true)) ∧ hSt n S.2.1
section
variable {X : Xs} {G : PgS} {S S' : Sy} {n p : Nat} {w w' : Wd}
theorem sE_one (o : okG G) (p : Nat) : oneW (sEn G p) := by
  obtain ⟨o1, o2⟩ := o
  refine ⟨?_, ?_, ?_⟩
  · rintro c hc ⟨⟨a1, a2⟩ | ⟨a1, -⟩, ⟨b1, b2⟩ | ⟨b1, -⟩⟩
    · exact (o2 c a1).1 (a2.trans b2.symm)
    · omega
    · omega
    · omega
  · rintro (⟨a, -⟩ | ⟨a, -⟩) <;> omega
  · rintro (⟨a, -⟩ | ⟨a, -⟩) <;> omega
theorem hSt_g (h : hSt n w) (hn : n < 2 ^ 31) : wGd w := by
  obtain ⟨⟨k, h1, h2⟩, h3, h4, -⟩ := h
  refine ⟨fun y => ?_, h3, h4⟩
  rw [h1] at y
  exact nI_nlt (a := k) (b := 0) (by omega) (by omega) y
/-- what a world's change leaves for a processor -/
def wFor (E : En) (w w' : Wd) : Prop := (E.2 13 → w'.1 1 = w.1 1 ∧ w'.1 2 = w.1 2) ∧ (∀ c, c < 12 → E.2 c → w.2.1 c 4 = 4 → w'.2.1 c 4 = 4) ∧ (∀ c, c < 12 → E.1 c → w'.2.1 c 0 = w.2.1 c 0 ∧ (w'.2.1 c 2 = w.2.1 c 2 ∧ w'.2.1 c 3 = w.2.1 c 3 ∨ ¬ w.2.1 c 0 = 0))
theorem wL_f {l k c i : Nat} {v : Int32} : (wL w l k v).2.1 c i = if c = l ∧ i = k then v else w.2.1 c i := rfl
/-- a byte of p: what it leaves for others -/
theorem wS_for (o : okG G) {q : Nat} (hq : q ≠ p) (h : wSt (sEn G p) w w') : wFor (sEn G q) w w' := by
  have same : wFor (sEn G q) w w := ⟨fun _ => ⟨rfl, rfl⟩, fun _ _ _ y => y, fun _ _ _ => ⟨rfl, Or.inl ⟨rfl, rfl⟩⟩⟩
  rcases h with h | ⟨v, hE, h | h⟩ | ⟨hE, h1, h⟩ | ⟨c, c1, hE, h1, h⟩ | ⟨c, v, c1, hE, h1, h⟩
  · rw [h]; exact same
  · rw [h]; exact same
  · rw [h]; exact same
  · have p0 : p = 0 := by
      rcases hE with ⟨a, -⟩ | ⟨-, a⟩
      · have := o.1; omega
      · exact a
    refine ⟨fun hE' => ?_, by rw [h]; exact same.2.1, by rw [h]; exact same.2.2⟩
    rcases hE' with ⟨a, -⟩ | ⟨-, a⟩
    · have := o.1; omega
    · omega
  · have pc : G.2.2.1 c = p := by
      rcases hE with ⟨-, a⟩ | ⟨a, -⟩
      · exact a
      · omega
    refine ⟨by rw [h]; exact same.1, fun c' hc' hE' y => ?_, fun c' hc' hE' => ?_⟩
    · have nc : c' ≠ c := fun y => by
        subst y
        rcases hE' with ⟨-, a⟩ | ⟨a, -⟩
        · exact hq (a.symm.trans pc)
        · omega
      rw [h, wL_f, wL_f, if_neg (fun y => nc y.1), if_neg (fun y => nc y.1)]
      exact y
    · rw [h, wL_f, wL_f, wL_f, wL_f, wL_f, wL_f]
      simp
  · have pc : G.2.1 c = p := by
      rcases hE with ⟨-, a⟩ | ⟨a, -⟩
      · exact a
      · omega
    refine ⟨by rw [h]; exact same.1, fun c' hc' hE' y => ?_, fun c' hc' hE' => ?_⟩
    · rw [h, wL_f, wL_f, if_neg (fun y => absurd y.2 (by decide)), if_neg (fun y => absurd y.2 (by decide))]
      exact y
    · have nc : c' ≠ c := fun y => by
        subst y
        rcases hE' with ⟨-, a⟩ | ⟨a, -⟩
        · exact hq (a.symm.trans pc)
        · omega
      rw [h, wL_f, wL_f, wL_f, wL_f, wL_f, wL_f]
      simp [nc]
theorem pSt_w {q : Nat} (h : pSt X G S q) (hs : S'.1 q = S.1 q) (hw : wFor (sEn G q) S.2.1 S'.2.1) : pSt X G S' q := by
  obtain ⟨g, Q, h1, h2⟩ := h
  refine ⟨g, Q, ?_, h2⟩
  rw [hs]
  exact w_lk h1 hw.1 hw.2.1 hw.2.2
/-- a byte of a processor -/
theorem s_step (o : okG G) (hp : p < 6) (hG : G.1 p = true) (oc : okC (X p).1 (G.2.2.2.2 p)) (h : SI X G n S) (hn : n + 1 < 2 ^ 31) (h14 : ¬ (S.1 p).1 14 = 0) : ∃ S', sStep G S p = some S' ∧ SI X G (n + 1) S' := by
  obtain ⟨g, Q, I, hF⟩ := h.1 p hp hG
  obtain ⟨s', w', x1, x2, g', Q', x3, x4⟩ := st_ok oc I (hSt_g h.2.2 (by omega)) h14 hF
  refine ⟨sC (sW S w') p s', by unfold sStep; rw [x1]; rfl, fun q hq hGq => ?_, fun l hl => ?_, ?_⟩
  · by_cases c : q = p
    · subst c
      refine ⟨g', Q', ?_, x4⟩
      show Inv _ _ (if q = q then s' else S.1 q) w' g' Q' _
      rw [if_pos rfl]
      exact x3
    · exact pSt_w (h.1 q hq hGq) (if_neg c) (wS_for o c x2)
  · obtain ⟨a1, a2⟩ := h.2.1 l hl
    show lSt w' l ∧ (¬ w'.2.1 l 0 = 0 → _)
    rcases x2 with h | ⟨v, hE, h | h⟩ | ⟨hE, h1, h⟩ | ⟨c, c1, hE, h1, h⟩ | ⟨c, v, c1, hE, h1, h⟩
    · rw [h]; exact ⟨a1, a2⟩
    · rw [h]; exact ⟨a1, a2⟩
    · rw [h]; exact ⟨a1, a2⟩
    · rw [h]; exact ⟨a1, a2⟩
    · by_cases c : l = c
      · subst c
        rw [h]
        refine ⟨?_, fun y => a2 ?_⟩
        · unfold lSt lF at a1 ⊢
          rw [wL_f, wL_f, wL_f, wL_f, wL_f, wL_f, wL_f, wL_f, wL_f, wL_f]
          simp only [show ¬ ((0 : Nat) = 5) by decide, show ¬ ((0 : Nat) = 4) by decide, show ¬ ((2 : Nat) = 5) by decide, show ¬ ((2 : Nat) = 4) by decide, show ¬ ((3 : Nat) = 5) by decide, show ¬ ((3 : Nat) = 4) by decide, show ¬ ((4 : Nat) = 5) by decide, show ¬ ((5 : Nat) = 4) by decide, and_false, if_false, and_self, if_true]
          rcases a1 with ⟨b1, b2⟩ | ⟨b1, b2⟩
          · have := congrArg (fun x => x.2.2.1) b2
            have this : S.2.1.2.1 l 4 = 0 := this
            rw [this] at h1
            exact absurd h1 (by decide)
          · refine Or.inr ⟨b1, ?_⟩
            have k : (S.2.1.2.1 l 2, S.2.1.2.1 l 3, S.2.1.2.1 l 4, S.2.1.2.1 l 5) = (4, 3, 4, 0) := by
              simp only [lsL, List.mem_cons, List.not_mem_nil, or_false, Prod.mk.injEq] at b2 ⊢
              rw [h1] at b2 ⊢
              rcases b2 with b | b | b | b | b | b | b | b | b
              all_goals first | exact b | exact absurd b.2.2.1 (by decide)
            have k2 : S.2.1.2.1 l 2 = 4 := congrArg (fun x => x.1) k
            have k3 : S.2.1.2.1 l 3 = 3 := congrArg (fun x => x.2.1) k
            rw [k2, k3]
            simp [lsL]
        · rw [wL_f, wL_f, if_neg (fun y => absurd y.2 (by decide)), if_neg (fun y => absurd y.2 (by decide))] at y
          exact y
      · have f : ∀ k, w'.2.1 l k = S.2.1.2.1 l k := fun k => by rw [h, wL_f, wL_f, if_neg (fun y => c y.1), if_neg (fun y => c y.1)]
        unfold lSt lF at a1 ⊢
        rw [f 0, f 2, f 3, f 4, f 5]
        exact ⟨a1, a2⟩
    · by_cases c : l = c
      · subst c
        have pl : G.2.1 l = p := by
          rcases hE with ⟨-, a⟩ | ⟨a, -⟩
          · exact a
          · omega
        refine ⟨?_, fun _ => by rw [pl]; exact hG⟩
        unfold lSt lF at a1 ⊢
        rw [h, wL_f, wL_f, wL_f, wL_f, wL_f, wL_f, wL_f, wL_f, wL_f, wL_f]
        simp only [show ¬ ((0 : Nat) = 1) by decide, show ¬ ((2 : Nat) = 0) by decide, show ¬ ((2 : Nat) = 1) by decide, show ¬ ((3 : Nat) = 0) by decide, show ¬ ((3 : Nat) = 1) by decide, show ¬ ((4 : Nat) = 0) by decide, show ¬ ((4 : Nat) = 1) by decide, show ¬ ((5 : Nat) = 0) by decide, show ¬ ((5 : Nat) = 1) by decide, and_false, if_false, and_self, if_true]
        rcases a1 with ⟨b1, b2⟩ | ⟨b1, b2⟩
        · refine Or.inr ⟨by decide, ?_⟩
          rw [b2]
          simp [lsL]
        · exact (b1 h1).elim
      · have f : ∀ k, w'.2.1 l k = S.2.1.2.1 l k := fun k => by rw [h, wL_f, wL_f, if_neg (fun y => c y.1), if_neg (fun y => c y.1)]
        unfold lSt lF at a1 ⊢
        rw [f 0, f 2, f 3, f 4, f 5]
        exact ⟨a1, a2⟩
  · obtain ⟨⟨k, h1, h2⟩, h3, h4, h5⟩ := h.2.2
    show hSt (n + 1) w'
    have sm : hSt (n + 1) S.2.1 := ⟨⟨k, h1, by omega⟩, h3, h4, h5⟩
    rcases x2 with h | ⟨v, hE, h | h⟩ | ⟨hE, g1, h⟩ | ⟨c, c1, hE, g1, h⟩ | ⟨c, v, c1, hE, g1, h⟩
    · rw [h]; exact sm
    · rw [h]
      refine ⟨⟨k + 1, ?_, by omega⟩, h3, h4, h5⟩
      show S.2.1.1 4 + 1 = _
      rw [h1, nI_succ]
    · rw [h]
      refine ⟨⟨k + 1, ?_, by omega⟩, h3, h4, h5⟩
      show S.2.1.1 4 + 1 = _
      rw [h1, nI_succ]
    · rw [h]
      have e1 : (wH S.2.1 2 (S.2.1.1 2 + 1)).1 2 = S.2.1.1 2 + 1 := rfl
      have e2 : (wH S.2.1 2 (S.2.1.1 2 + 1)).1 1 = S.2.1.1 1 := rfl
      have e3 : (wH S.2.1 2 (S.2.1.1 2 + 1)).1 4 = S.2.1.1 4 := rfl
      rw [Int32.le_iff_toInt_le] at h3 h4 h5 g1
      have z0 : ((0 : Int32)).toInt = 0 := rfl
      have z2 : ((200 : Int32)).toInt = 200 := rfl
      rw [z0] at h3
      rw [z2] at h4
      have e4 : (S.2.1.1 2 + 1).toInt = (S.2.1.1 2).toInt + 1 := i_add rfl rfl (by show -2147483648 ≤ (S.2.1.1 2).toInt + 1; omega) (by show (S.2.1.1 2).toInt + 1 ≤ 2147483647; omega)
      refine ⟨⟨k, by rw [e3]; exact h1, by omega⟩, ?_, ?_, ?_⟩
      · rw [e1, Int32.le_iff_toInt_le, e4, z0]; omega
      · rw [e2, Int32.le_iff_toInt_le, z2]; omega
      · rw [e1, e2, Int32.le_iff_toInt_le, e4]; omega
    · rw [h]; exact sm
    · rw [h]; exact sm
end
