/-! (S): links, keys, runs -/
section
variable {X : Xs} {G : PgS} {S S' : Sy} {n p l : Nat} {w w' : Wd}
/-- a link's fields alone change -/
theorem wF_l (h1 : w'.1 1 = w.1 1 ∧ w'.1 2 = w.1 2) (hf : ∀ c k, c ≠ l → w'.2.1 c k = w.2.1 c k) (h0 : w'.2.1 l 0 = w.2.1 l 0) (n0 : ¬ w.2.1 l 0 = 0) (h4 : w.2.1 l 4 ≠ 4) (E : En) : wFor E w w' := by
  refine ⟨fun _ => h1, fun c _ _ y => ?_, fun c _ _ => ?_⟩
  · by_cases e : c = l
    · subst e; exact (h4 y).elim
    · rw [hf c 4 e]; exact y
  · by_cases e : c = l
    · subst e; exact ⟨h0, Or.inr n0⟩
    · exact ⟨hf c 0 e, Or.inl ⟨hf c 2 e, hf c 3 e⟩⟩
theorem lSt_o {c : Nat} (hf : ∀ k, w'.2.1 c k = w.2.1 c k) (h : lSt w c) : lSt w' c := by
  unfold lSt lF at h ⊢
  rw [hf 0, hf 2, hf 3, hf 4, hf 5]
  exact h
/-- the world alone changes -/
theorem SI_w (h : SI X G n S) (h1 : w'.1 = S.2.1.1) (hf : ∀ c k, c ≠ l → w'.2.1 c k = S.2.1.2.1 c k) (h0 : w'.2.1 l 0 = S.2.1.2.1 l 0) (n0 : ¬ S.2.1.2.1 l 0 = 0) (h4 : S.2.1.2.1 l 4 ≠ 4) (hl : lF w' l ∈ lsL) : SI X G n (sW S w') := by
  refine ⟨fun q hq hG => pSt_w (h.1 q hq hG) rfl (wF_l ⟨by show w'.1 1 = _; rw [h1], by show w'.1 2 = _; rw [h1]⟩ hf h0 n0 h4 _), fun c hc => ?_, ?_⟩
  · obtain ⟨a1, a2⟩ := h.2.1 c hc
    by_cases e : c = l
    · subst e
      exact ⟨Or.inr ⟨by show ¬ w'.2.1 c 0 = 0; rw [h0]; exact n0, hl⟩, fun _ => a2 n0⟩
    · exact ⟨lSt_o (fun k => hf c k e) a1, fun y => a2 (by rw [← hf c 0 e]; exact y)⟩
  · show hSt n w'
    unfold hSt
    rw [h1]
    exact h.2.2
/-- one processor and the world -/
theorem SI_c {s' : Cr} (h : SI X G n S) (hp : p < 6) (h1 : w'.1 = S.2.1.1) (mine : ∃ g Q, Inv (X p).1 (X p).2 s' w' g Q (sEn G p) ∧ aFr (X p).1 (X p).2 (sEn G p) Q) (oth : ∀ q, q ≠ p → wFor (sEn G q) S.2.1 w') (hl : ∀ c, c < G.2.2.2.1 → lSt w' c ∧ (¬ w'.2.1 c 0 = 0 → G.1 (G.2.1 c) = true)) : SI X G n (sC (sW S w') p s') := by
  refine ⟨fun q hq hG => ?_, hl, by show hSt n w'; unfold hSt; rw [h1]; exact h.2.2⟩
  by_cases e : q = p
  · subst e
    obtain ⟨g, Q, m1, m2⟩ := mine
    refine ⟨g, Q, ?_, m2⟩
    show Inv _ _ (if q = q then s' else S.1 q) w' g Q _
    rw [if_pos rfl]
    exact m1
  · exact pSt_w (h.1 q hq hG) (if_neg e) (oth q e)
/-- a link does one thing -/
theorem s_beat (o : okG G) (h : SI X G n S) (hl : l < G.2.2.2.1) : ∃ b S', sBeat G S l = some (b, S') ∧ SI X G n S' := by
  obtain ⟨a1, a2⟩ := h.2.1 l hl
  have l12 : l < 12 := by have := o.1; omega
  obtain ⟨ft, f6, t6⟩ := o.2 l hl
  rcases a1 with ⟨n0, b⟩ | ⟨n0, b⟩
  · have k5 : S.2.1.2.1 l 5 = 0 := congrArg (fun x => x.2.2.2) b
    refine ⟨false, S, ?_, h⟩
    unfold sBeat
    rw [if_neg (fun y => y k5), if_neg (fun y => y.1 n0)]
  · have hG := a2 n0
    have wf1 : ∀ (w : Wd) i v c k, c ≠ l → (wL w l i v).2.1 c k = w.2.1 c k := fun w i v c k e => if_neg (fun y => e y.1)
    have wf2 : ∀ (w : Wd) i v k, k ≠ i → (wL w l i v).2.1 l k = w.2.1 l k := fun w i v k e => if_neg (fun y => e y.2)
    have wf3 : ∀ (w : Wd) i v, (wL w l i v).2.1 l i = v := fun w i v => if_pos ⟨rfl, rfl⟩
    -- a byte goes
    have goes : ∀ k : Int32, lF S.2.1 l = (k, k, k, 0) → k < 4 → k + 1 ≠ 4 → k + 1 < 4 → k ≠ 4 → (k + 1, k, k + 1, 1) ∈ lsL → ∃ b S', sBeat G S l = some (b, S') ∧ SI X G n S' := by
      intro k hk c1 c2 c3 c4 hm
      have k2 : S.2.1.2.1 l 2 = k := congrArg (fun x => x.1) hk
      have k3 : S.2.1.2.1 l 3 = k := congrArg (fun x => x.2.1) hk
      have k4 : S.2.1.2.1 l 4 = k := congrArg (fun x => x.2.2.1) hk
      have k5 : S.2.1.2.1 l 5 = 0 := congrArg (fun x => x.2.2.2) hk
      refine ⟨true, sW S (wL (wL (wL S.2.1 l 2 (k + 1)) l 4 (k + 1)) l 5 1), ?_, ?_⟩
      · unfold sBeat
        rw [if_neg (fun y => y k5), k2, k3, k4, if_pos ⟨n0, rfl, c1⟩, if_neg c2, if_pos c3]
      · refine SI_w h rfl (fun c k e => by rw [wf1 _ _ _ _ _ e, wf1 _ _ _ _ _ e, wf1 _ _ _ _ _ e]) ?_ n0 (by rw [k4]; exact c4) ?_
        · rw [wf2 _ _ _ _ (by decide), wf2 _ _ _ _ (by decide), wf2 _ _ _ _ (by decide)]
        · unfold lF
          rw [wf2 _ 5 _ 2 (by decide), wf2 _ 4 _ 2 (by decide), wf3, wf2 _ 5 _ 3 (by decide), wf2 _ 4 _ 3 (by decide), wf2 _ 2 _ 3 (by decide), wf2 _ 5 _ 4 (by decide), wf3, wf3, k3]
          exact hm
    -- it is acknowledged
    have ackd : ∀ k : Int32, lF S.2.1 l = (k + 1, k, k + 1, 1) → k + 1 ≠ 4 → k + 1 < 4 → (k + 1, k + 1, k + 1, 0) ∈ lsL → ∃ b S', sBeat G S l = some (b, S') ∧ SI X G n S' := by
      intro k hk c1 c2 hm
      have k2 : S.2.1.2.1 l 2 = k + 1 := congrArg (fun x => x.1) hk
      have k3 : S.2.1.2.1 l 3 = k := congrArg (fun x => x.2.1) hk
      have k4 : S.2.1.2.1 l 4 = k + 1 := congrArg (fun x => x.2.2.1) hk
      have k5 : S.2.1.2.1 l 5 = 1 := congrArg (fun x => x.2.2.2) hk
      refine ⟨true, sW S (wL (wL S.2.1 l 5 0) l 3 (k + 1)), ?_, ?_⟩
      · unfold sBeat
        rw [if_pos (by rw [k5]; decide), k2, k3, if_pos ⟨rfl, n0, hG⟩, if_neg c1, if_pos c2]
      · refine SI_w h rfl (fun c k e => by rw [wf1 _ _ _ _ _ e, wf1 _ _ _ _ _ e]) ?_ n0 (by rw [k4]; exact c1) ?_
        · rw [wf2 _ _ _ _ (by decide), wf2 _ _ _ _ (by decide)]
        · unfold lF
          rw [wf2 _ 3 _ 2 (by decide), wf2 _ 5 _ 2 (by decide), wf3, wf2 _ 3 _ 4 (by decide), wf2 _ 5 _ 4 (by decide), wf2 _ 3 _ 5 (by decide), wf3, k2, k4]
          exact hm
    simp only [lsL, List.mem_cons, List.not_mem_nil, or_false] at b
    rcases b with b | b | b | b | b | b | b | b | b
    · exact goes 0 b (by decide) (by decide) (by decide) (by decide) (by simp [lsL])
    · exact ackd 0 b (by decide) (by decide) (by simp [lsL])
    · exact goes 1 b (by decide) (by decide) (by decide) (by decide) (by simp [lsL])
    · exact ackd 1 b (by decide) (by decide) (by simp [lsL])
    · exact goes 2 b (by decide) (by decide) (by decide) (by decide) (by simp [lsL])
    · exact ackd 2 b (by decide) (by decide) (by simp [lsL])
    · have k2 : S.2.1.2.1 l 2 = 3 := congrArg (fun x => x.1) b
      have k3 : S.2.1.2.1 l 3 = 3 := congrArg (fun x => x.2.1) b
      have k4 : S.2.1.2.1 l 4 = 3 := congrArg (fun x => x.2.2.1) b
      have k5 : S.2.1.2.1 l 5 = 0 := congrArg (fun x => x.2.2.2) b
      have n4 : S.2.1.2.1 l 4 ≠ 4 := by rw [k4]; decide
      have hf' : ∀ c k, c ≠ l → (wL (wL S.2.1 l 2 4) l 4 4).2.1 c k = S.2.1.2.1 c k := fun c k e => by rw [wf1 _ _ _ _ _ e, wf1 _ _ _ _ _ e]
      have h0' : (wL (wL S.2.1 l 2 4) l 4 4).2.1 l 0 = S.2.1.2.1 l 0 := by rw [wf2 _ _ _ _ (by decide), wf2 _ _ _ _ (by decide)]
      have lF' : lF (wL (wL S.2.1 l 2 4) l 4 4) l = (4, 3, 4, 0) := by
        unfold lF
        rw [wf2 _ 4 _ 2 (by decide), wf3, wf2 _ 4 _ 3 (by decide), wf2 _ 2 _ 3 (by decide), wf3, wf2 _ 4 _ 5 (by decide), wf2 _ 2 _ 5 (by decide), k3, k5]
      have s1 : (3 : Int32) + 1 = 4 := by decide
      have un : sBeat G S l = (if G.1 (G.2.2.1 l) = true then (cCome (S.1 (G.2.2.1 l)) l (S.2.1.2.1 l 1)).bind fun x => (cSettle x.2).map fun s => (true, sC (sW S (if x.1 = true then wL (wL (wL (wL S.2.1 l 2 4) l 4 4) l 4 0) l 5 1 else wL (wL S.2.1 l 2 4) l 4 4)) (G.2.2.1 l) s) else some (true, sW S (wL (wL S.2.1 l 2 4) l 4 4))) := by
        unfold sBeat
        rw [if_neg (fun y => y k5), k2, k3, k4, if_pos ⟨n0, rfl, by decide⟩, if_pos s1, s1]
      rw [un]
      by_cases gt : G.1 (G.2.2.1 l) = true
      · rw [if_pos gt]
        obtain ⟨g, Q, I, hF⟩ := h.1 _ t6 gt
        have one := sE_one o (G.2.2.1 l)
        have I' : Inv (X (G.2.2.1 l)).1 (X (G.2.2.1 l)).2 (S.1 (G.2.2.1 l)) (wL (wL S.2.1 l 2 4) l 4 4) g Q (sEn G (G.2.2.1 l)) := by
          have wf := wF_l (w := S.2.1) (w' := wL (wL S.2.1 l 2 4) l 4 4) (l := l) ⟨rfl, rfl⟩ hf' h0' n0 n4 (sEn G (G.2.2.1 l))
          exact w_lk I wf.1 wf.2.1 wf.2.2
        have lo : ∀ w' : Wd, (∀ c k, c ≠ l → w'.2.1 c k = S.2.1.2.1 c k) → w'.2.1 l 0 = S.2.1.2.1 l 0 → lF w' l ∈ lsL → ∀ c, c < G.2.2.2.1 → lSt w' c ∧ (¬ w'.2.1 c 0 = 0 → G.1 (G.2.1 c) = true) := by
          intro w' y1 y2 y3 c hc
          obtain ⟨d1, d2⟩ := h.2.1 c hc
          by_cases e : c = l
          · subst e
            exact ⟨Or.inr ⟨by rw [y2]; exact n0, y3⟩, fun _ => hG⟩
          · exact ⟨lSt_o (fun k => y1 c k e) d1, fun y => d2 (by rw [← y1 c 0 e]; exact y)⟩
        rcases come_ok (v := S.2.1.2.1 l 1) one I (fun _ => I') hF.1 (Or.inl ⟨hl, rfl⟩) (by omega) (fun y => by omega) (fun _ => wf3 _ _ _) with ⟨s', x1, -, Q', x3, x4⟩ | ⟨s', x1, Q', x3, x4⟩
        · rw [x1]
          obtain ⟨s2, d1, Q2, d2, d3⟩ := settle x3
          have hf2 : ∀ c k, c ≠ l → (wL (wL (wL (wL S.2.1 l 2 4) l 4 4) l 4 0) l 5 1).2.1 c k = S.2.1.2.1 c k := fun c k e => by rw [wf1 _ _ _ _ _ e, wf1 _ _ _ _ _ e, hf' c k e]
          have h02 : (wL (wL (wL (wL S.2.1 l 2 4) l 4 4) l 4 0) l 5 1).2.1 l 0 = S.2.1.2.1 l 0 := by rw [wf2 _ _ _ _ (by decide), wf2 _ _ _ _ (by decide), h0']
          have lF2 : lF (wL (wL (wL (wL S.2.1 l 2 4) l 4 4) l 4 0) l 5 1) l ∈ lsL := by
            have : lF (wL (wL (wL (wL S.2.1 l 2 4) l 4 4) l 4 0) l 5 1) l = (4, 3, 0, 1) := by
              unfold lF
              rw [wf2 _ 5 _ 2 (by decide), wf2 _ 4 _ 2 (by decide), wf2 _ 4 _ 2 (by decide), wf3, wf2 _ 5 _ 3 (by decide), wf2 _ 4 _ 3 (by decide), wf2 _ 4 _ 3 (by decide), wf2 _ 2 _ 3 (by decide), wf2 _ 5 _ 4 (by decide), wf3, wf3, k3]
            rw [this]
            simp [lsL]
          have wfE := fun E => wF_l (w := S.2.1) (w' := wL (wL (wL (wL S.2.1 l 2 4) l 4 4) l 4 0) l 5 1) (l := l) ⟨rfl, rfl⟩ hf2 h02 n0 n4 E
          refine ⟨true, sC (sW S (wL (wL (wL (wL S.2.1 l 2 4) l 4 4) l 4 0) l 5 1)) (G.2.2.1 l) s2, ?_, SI_c h t6 rfl ⟨g, Q2, w_lk d2 (wfE _).1 (wfE _).2.1 (wfE _).2.2, (hF.st x4 fun _ _ y => y.elim).st d3 fun _ _ y => y.elim⟩ (fun q _ => wfE _) (lo _ hf2 h02 lF2)⟩
          show (cSettle s').map _ = _
          rw [d1]
          rfl
        · rw [x1]
          obtain ⟨s2, d1, Q2, d2, d3⟩ := settle x3
          have wfE := fun E => wF_l (w := S.2.1) (w' := wL (wL S.2.1 l 2 4) l 4 4) (l := l) ⟨rfl, rfl⟩ hf' h0' n0 n4 E
          refine ⟨true, sC (sW S (wL (wL S.2.1 l 2 4) l 4 4)) (G.2.2.1 l) s2, ?_, SI_c h t6 rfl ⟨g, Q2, d2, (hF.st x4 fun _ _ y => y.elim).st d3 fun _ _ y => y.elim⟩ (fun q _ => wfE _) (lo _ hf' h0' (by rw [lF']; simp [lsL]))⟩
          show (cSettle s').map _ = _
          rw [d1]
          rfl
      · rw [if_neg gt]
        exact ⟨true, _, rfl, SI_w h rfl hf' h0' n0 n4 (by rw [lF']; simp [lsL])⟩
    · have k2 : S.2.1.2.1 l 2 = 4 := congrArg (fun x => x.1) b
      have k3 : S.2.1.2.1 l 3 = 3 := congrArg (fun x => x.2.1) b
      have k5 : S.2.1.2.1 l 5 = 0 := congrArg (fun x => x.2.2.2) b
      refine ⟨false, S, ?_, h⟩
      unfold sBeat
      rw [if_neg (fun y => y k5), k2, k3, if_neg (fun y => absurd y.2.1 (by decide))]
    · have k2 : S.2.1.2.1 l 2 = 4 := congrArg (fun x => x.1) b
      have k3 : S.2.1.2.1 l 3 = 3 := congrArg (fun x => x.2.1) b
      have k4 : S.2.1.2.1 l 4 = 0 := congrArg (fun x => x.2.2.1) b
      have k5 : S.2.1.2.1 l 5 = 1 := congrArg (fun x => x.2.2.2) b
      obtain ⟨g, Q, I, hF⟩ := h.1 _ f6 hG
      have one := sE_one o (G.2.1 l)
      obtain ⟨s', x1, Q', x3, x4⟩ := ack_ok one I l12 (Or.inl ⟨hl, rfl⟩) n0 k4
      obtain ⟨s2, d1, Q2, d2, d3⟩ := settle x3
      have s1 : (3 : Int32) + 1 = 4 := by decide
      have wc : ∀ c k, c ≠ l → (wClr S.2.1 l).2.1 c k = S.2.1.2.1 c k := fun c k e => if_neg e
      have wl : ∀ k, (wClr S.2.1 l).2.1 l k = 0 := fun k => if_pos rfl
      refine ⟨true, sC (sW S (wClr S.2.1 l)) (G.2.1 l) s2, ?_, SI_c h f6 rfl ⟨g, Q2, d2, (hF.st x4 fun _ _ y => y.elim).st d3 fun _ _ y => y.elim⟩ (fun q hq => ⟨fun _ => ⟨rfl, rfl⟩, fun c _ _ y => ?_, fun c _ hE => ?_⟩) (fun c hc => ?_)⟩
      · unfold sBeat
        rw [if_pos (by rw [k5]; decide), k2, k3, if_pos ⟨by decide, n0, hG⟩, if_pos s1, if_pos k4, x1]
        show ((cSettle s').map _) = _
        rw [d1]
        rfl
      · by_cases e : c = l
        · subst e; rw [k4] at y; exact absurd y (by decide)
        · rw [wc c 4 e]; exact y
      · have e : c ≠ l := fun y => by
          subst y
          rcases hE with ⟨-, z⟩ | ⟨z, -⟩
          · exact hq z.symm
          · omega
        exact ⟨wc c 0 e, Or.inl ⟨wc c 2 e, wc c 3 e⟩⟩
      · obtain ⟨d1, d2⟩ := h.2.1 c hc
        by_cases e : c = l
        · subst e
          exact ⟨Or.inl ⟨wl 0, by unfold lF; rw [wl, wl, wl, wl]⟩, fun y => (y (wl 0)).elim⟩
        · exact ⟨lSt_o (fun k => wc c k e) d1, fun y => d2 (by rw [← wc c 0 e]; exact y)⟩
/-- links in a row -/
theorem s_bl (o : okG G) : ∀ (k l : Nat) (S : Sy) (v : Int32), SI X G n S → l + k ≤ G.2.2.2.1 → ∃ x S', sBl G k l S v = some (x, S') ∧ SI X G n S'
  | 0, l, S, v, h, _ => ⟨v, S, rfl, h⟩
  | k + 1, l, S, v, h, hl => by
    obtain ⟨b, S1, x1, x2⟩ := s_beat (l := l) o h (by omega)
    obtain ⟨x, S2, y1, y2⟩ := s_bl o k (l + 1) S1 (v + bI b) x2 (by omega)
    exact ⟨x, S2, by show (sBeat G S l).bind _ = _; rw [x1]; exact y1, y2⟩
theorem s_ba (o : okG G) (h : SI X G n S) : ∃ x S', sBa G S = some (x, S') ∧ SI X G n S' := by
  obtain ⟨x, S1, x1, x2⟩ := s_bl o G.2.2.2.1 0 S 0 h (by omega)
  exact ⟨x, (S1.1, S1.2.1, S1.2.2.1 + 1, S1.2.2.2 + x), by unfold sBa; rw [x1]; rfl, x2⟩
theorem s_bn (o : okG G) : ∀ (k : Nat) (S : Sy) (v : Int32), SI X G n S → ∃ x S', sBn G k S v = some (x, S') ∧ SI X G n S'
  | 0, S, v, h => ⟨v, S, rfl, h⟩
  | k + 1, S, v, h => by
    obtain ⟨x, S1, x1, x2⟩ := s_ba o h
    obtain ⟨y, S2, y1, y2⟩ := s_bn o k S1 (v + x) x2
    exact ⟨y, S2, by show (sBa G S).bind _ = _; rw [x1]; exact y1, y2⟩
theorem SI_m {m : Nat} (h : SI X G n S) (hm : n ≤ m) : SI X G m S := by
  obtain ⟨h1, h2, ⟨k, h3, h4⟩, h5⟩ := h
  exact ⟨h1, h2, ⟨k, h3, by omega⟩, h5⟩
theorem s_run (o : okG G) (hp : p < 6) (hG : G.1 p = true) (oc : okC (X p).1 (G.2.2.2.2 p)) : ∀ (k n : Nat) (S : Sy) (v : Int32), SI X G n S → n + k < 2 ^ 31 → ∃ x S', sRun G p k S v = some (x, S') ∧ SI X G (n + k) S'
  | 0, n, S, v, h, _ => ⟨v, S, rfl, h⟩
  | k + 1, n, S, v, h, hn => by
    by_cases c : (S.1 p).1 14 = 0
    · exact ⟨v, S, by unfold sRun; rw [if_pos c], SI_m h (by omega)⟩
    · obtain ⟨S1, x1, x2⟩ := s_step o hp hG oc h (by omega) c
      obtain ⟨x, S2, y1, y2⟩ := s_run o hp hG oc k (n + 1) S1 (v + 1) x2 (by omega)
      exact ⟨x, S2, by unfold sRun; rw [if_neg c, x1]; exact y1, by rw [show n + (k + 1) = n + 1 + k by omega]; exact y2⟩
theorem s_rd (o : okG G) (oc : ∀ p, p < 6 → G.1 p = true → okC (X p).1 (G.2.2.2.2 p)) : ∀ (k p n : Nat) (S : Sy), SI X G n S → p + k ≤ 6 → n + k < 2 ^ 31 → ∃ S', sRd G k p S = some S' ∧ SI X G (n + k) S'
  | 0, p, n, S, h, _, _ => ⟨S, rfl, h⟩
  | k + 1, p, n, S, h, hp, hn => by
    have a : ∃ S1, (if G.1 p = true ∧ ¬ (S.1 p).1 14 = 0 then sStep G S p else some S) = some S1 ∧ SI X G (n + 1) S1 := by
      by_cases c : G.1 p = true ∧ ¬ (S.1 p).1 14 = 0
      · rw [if_pos c]
        exact s_step o (by omega) c.1 (oc p (by omega) c.1) h (by omega) c.2
      · rw [if_neg c]
        exact ⟨S, rfl, SI_m h (by omega)⟩
    obtain ⟨S1, x1, x2⟩ := a
    obtain ⟨S2, y1, y2⟩ := s_rd o oc k (p + 1) (n + 1) S1 x2 (by omega) (by omega)
    exact ⟨S2, by show Option.bind _ _ = _; rw [x1]; exact y1, by rw [show n + (k + 1) = n + 1 + k by omega]; exact y2⟩
theorem s_rs (o : okG G) (oc : ∀ p, p < 6 → G.1 p = true → okC (X p).1 (G.2.2.2.2 p)) : ∀ (k n : Nat) (S : Sy) (v : Int32), SI X G n S → n + 6 * k < 2 ^ 31 → ∃ x S', sRs G k S v = some (x, S') ∧ SI X G (n + 6 * k) S'
  | 0, n, S, v, h, _ => ⟨v, S, rfl, h⟩
  | k + 1, n, S, v, h, hn => by
    by_cases c : ¬ sOut G S = 0
    · exact ⟨v, S, by unfold sRs; rw [if_pos c], SI_m h (by omega)⟩
    · obtain ⟨S1, x1, x2⟩ := s_rd o oc 6 0 n S h (by omega) (by omega)
      obtain ⟨x, S2, y1, y2⟩ := s_ba o x2
      obtain ⟨x', S3, z1, z2⟩ := s_rs o oc k (n + 6) S2 (v + 1) y2 (by omega)
      refine ⟨x', S3, ?_, by rw [show n + 6 * (k + 1) = n + 6 + 6 * k by omega]; exact z2⟩
      unfold sRs
      rw [if_neg c, x1]
      show (sBa G S1).bind _ = _
      rw [y1]
      exact z1
/-- a key comes -/
theorem s_inp {v : Int32} (o : okG G) (h : SI X G n S) (hk : mj_in (S.2.1.1 1) 200) : ∃ S', sInp G S v = some S' ∧ SI X G n S' := by
  obtain ⟨⟨k, h1, h2⟩, h3, h4, h5⟩ := h.2.2
  have hk' := hk
  obtain ⟨k1, k2⟩ := hk'
  have z0 : ((0 : Int32)).toInt = 0 := rfl
  have z2 : ((200 : Int32)).toInt = 200 := rfl
  have e4 : (S.2.1.1 1 + 1).toInt = (S.2.1.1 1).toInt + 1 := i_add rfl rfl (by show -2147483648 ≤ (S.2.1.1 1).toInt + 1; omega) (by show (S.2.1.1 1).toInt + 1 ≤ 2147483647; omega)
  have f1 : (wGiv S.2.1 v).1 1 = S.2.1.1 1 + 1 := rfl
  have f2 : (wGiv S.2.1 v).1 2 = S.2.1.1 2 := rfl
  have f4 : (wGiv S.2.1 v).1 4 = S.2.1.1 4 := rfl
  rw [Int32.le_iff_toInt_le] at h3 h4 h5
  rw [z0] at h3
  rw [z2] at h4
  have hs1 : hSt n (wGiv S.2.1 v) := by
    refine ⟨⟨k, by rw [f4]; exact h1, h2⟩, ?_, ?_, ?_⟩
    · rw [f2, Int32.le_iff_toInt_le, z0]; exact h3
    · rw [f1, Int32.le_iff_toInt_le, e4, z2]; omega
    · rw [f1, f2, Int32.le_iff_toInt_le, e4]; omega
  have nE : ∀ q, q ≠ 0 → ¬ (sEn G q).2 13 := by
    rintro q hq (⟨a, -⟩ | ⟨-, a⟩)
    · have := o.1; omega
    · exact hq a
  have oth : ∀ (w' : Wd) q, w'.2.1 = S.2.1.2.1 → q ≠ 0 → wFor (sEn G q) S.2.1 w' := by
    intro w' q hw hq
    refine ⟨fun y => (nE q hq y).elim, fun c _ _ y => by rw [hw]; exact y, fun c _ _ => by rw [hw]; exact ⟨rfl, Or.inl ⟨rfl, rfl⟩⟩⟩
  have lk : ∀ w' : Wd, w'.2.1 = S.2.1.2.1 → ∀ c, c < G.2.2.2.1 → lSt w' c ∧ (¬ w'.2.1 c 0 = 0 → G.1 (G.2.1 c) = true) := by
    intro w' hw c hc
    obtain ⟨d1, d2⟩ := h.2.1 c hc
    exact ⟨lSt_o (fun k => by rw [hw]) d1, fun y => d2 (by rw [← hw]; exact y)⟩
  -- one processor and the world
  have fin : ∀ (w' : Wd) (s' : Cr), w'.2.1 = S.2.1.2.1 → hSt n w' → (∃ g Q, Inv (X 0).1 (X 0).2 s' w' g Q (sEn G 0) ∧ aFr (X 0).1 (X 0).2 (sEn G 0) Q) → SI X G n (sC (sW S w') 0 s') := by
    intro w' s' hw hh mine
    refine ⟨fun q hq hG => ?_, lk w' hw, hh⟩
    by_cases e : q = 0
    · subst e
      obtain ⟨g, Q, m1, m2⟩ := mine
      refine ⟨g, Q, ?_, m2⟩
      show Inv _ _ (if 0 = 0 then s' else S.1 0) w' g Q _
      rw [if_pos rfl]
      exact m1
    · exact pSt_w (h.1 q hq hG) (if_neg e) (oth w' q hw e)
  unfold sInp
  rw [if_pos hk]
  by_cases g0 : G.1 0 = true
  · rw [if_pos g0]
    obtain ⟨g, Q, I, hF⟩ := h.1 0 (by omega) g0
    have one := sE_one o 0
    obtain ⟨u1, u2, u3⟩ := I.2.2.2.2
    have more : ¬ (wGiv S.2.1 v).1 1 ≤ (wGiv S.2.1 v).1 2 := by
      rw [f1, f2, Int32.le_iff_toInt_le, e4]; omega
    have hI : (∀ b tb, Q b = some tb → thS tb = 2 → thC tb ≠ 13) → Inv (X 0).1 (X 0).2 (S.1 0) (wGiv S.2.1 v) g Q (sEn G 0) := by
      intro no
      refine w_ch I (fun b tb W j z r x _ _ _ _ _ _ => ?_) ⟨u1, u2, fun b tb eb b2 b13 => (no b tb eb b2 b13).elim⟩
      unfold hasC
      by_cases c1 : x = 13
      · rw [if_pos c1, if_pos c1]
        exact fun _ => more
      · rw [if_neg c1, if_neg c1]
        exact id
    rcases come_ok (v := v) one I hI hF.1 (Or.inr ⟨rfl, rfl⟩) (by omega) (fun _ => more) (fun y => by omega) with ⟨s', x1, x2, Q', x3, x4⟩ | ⟨s', x1, Q', x3, x4⟩
    · rw [x1]
      have le := x2 rfl
      have eq : S.2.1.1 2 = S.2.1.1 1 := by
        rw [Int32.le_iff_toInt_le] at le
        exact Int32.toInt_inj.mp (by omega)
      obtain ⟨v1, v2, v3⟩ := x3.2.2.2.2
      have g1 : (wH (wGiv S.2.1 v) 2 (S.2.1.1 2 + 1)).1 1 = S.2.1.1 1 + 1 := rfl
      have g2 : (wH (wGiv S.2.1 v) 2 (S.2.1.1 2 + 1)).1 2 = S.2.1.1 1 + 1 := by show S.2.1.1 2 + 1 = _; rw [eq]
      have le2 : (wH (wGiv S.2.1 v) 2 (S.2.1.1 2 + 1)).1 1 ≤ (wH (wGiv S.2.1 v) 2 (S.2.1.1 2 + 1)).1 2 := by rw [g1, g2]; exact Int32.le_refl _
      have J : Inv (X 0).1 (X 0).2 s' (wH (wGiv S.2.1 v) 2 (S.2.1.1 2 + 1)) g Q' (sEn G 0) := by
        refine w_ch x3 (fun b tb W j z r x _ _ _ _ _ _ => ?_) ⟨v1, v2, fun _ _ _ _ _ => le2⟩
        unfold hasC
        by_cases c1 : x = 13
        · rw [if_pos c1, if_pos c1]
          exact fun y => (y le).elim
        · rw [if_neg c1, if_neg c1]
          exact id
      obtain ⟨s2, d1, Q2, d2, d3⟩ := settle J
      refine ⟨sC (sW S (wH (wGiv S.2.1 v) 2 (S.2.1.1 2 + 1))) 0 s2, ?_, fin _ _ rfl ?_ ⟨g, Q2, d2, (hF.st x4 fun _ _ y => y.elim).st d3 fun _ _ y => y.elim⟩⟩
      · show (if S.2.1.1 2 = S.2.1.1 1 then (cSettle s').map (fun s => sC (sW S (wH (wGiv S.2.1 v) 2 (S.2.1.1 2 + 1))) 0 s) else none) = _
        rw [if_pos eq, d1]
        rfl
      · refine ⟨⟨k, h1, h2⟩, ?_, ?_, ?_⟩
        · rw [g2, Int32.le_iff_toInt_le, e4, z0]; omega
        · rw [g1, Int32.le_iff_toInt_le, e4, z2]; omega
        · rw [g1, g2]; exact Int32.le_refl _
    · rw [x1]
      obtain ⟨s2, d1, Q2, d2, d3⟩ := settle x3
      refine ⟨sC (sW S (wGiv S.2.1 v)) 0 s2, ?_, fin _ _ rfl hs1 ⟨g, Q2, d2, (hF.st x4 fun _ _ y => y.elim).st d3 fun _ _ y => y.elim⟩⟩
      show (cSettle s').map (fun s => sC (sW S (wGiv S.2.1 v)) 0 s) = _
      rw [d1]
      rfl
  · rw [if_neg g0]
    refine ⟨_, rfl, fun q hq hG => ?_, lk _ rfl, hs1⟩
    have e : q ≠ 0 := fun y => g0 (y ▸ hG)
    exact pSt_w (h.1 q hq hG) rfl (oth _ q rfl e)
end
