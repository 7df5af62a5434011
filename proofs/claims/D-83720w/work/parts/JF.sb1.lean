/-! (S): what stays -/
/-- words that are held stay, owners and roles stay, rights stay below -/
def stb (P : Nat → Prop) (m m' : Nat → Int32) (g g' : Gh) (Q Q' : Thr) (A : List Nat) (b : Nat) : Prop :=
  (∀ x, P x → g.1 x ∈ A → g.2.1 x = 3 → m' x = m x) ∧ (∀ x, P x → g.1 x ∈ A → g'.1 x = g.1 x ∧ g'.2.1 x = g.2.1 x) ∧ (∀ x, P x → g.1 x ∈ A → g.2.1 x = 2 → (bel Q b (g.2.2.1 x) → bel Q' b (g'.2.2.1 x)) ∧ (bel Q b (g.2.2.2 x) → bel Q' b (g'.2.2.2 x)))
section
variable {pl : Nat → Nat} {M : Nat} {g g' : Gh} {Q Q' : Thr} {A : List Nat} {t pri : Nat} {m m' : Nat → Int32} {G : Int → Kd} {W hi : Nat}
theorem okD.mv {P : Nat → Prop} {a : Nat} (h : okD M g A a) (pa : P a) (f : ∀ x, P x → g.1 x ∈ A → g'.1 x = g.1 x ∧ g'.2.1 x = g.2.1 x) : okD M g' A a := by
  obtain ⟨h1, h2, h3, h4⟩ := h
  obtain ⟨f1, f2⟩ := f a pa h4
  exact ⟨h1, h2, f2.trans h3, f1 ▸ h4⟩
theorem okH.mv {P : Nat → Prop} {n a : Nat} (h : okH M g Q A t n a) (pa : P a) (f : ∀ x, P x → g.1 x ∈ A → g'.1 x = g.1 x ∧ g'.2.1 x = g.2.1 x) (r : ∀ x, P x → g.1 x ∈ A → g.2.1 x = 2 → (bel Q t (g.2.2.1 x) → bel Q' t (g'.2.2.1 x)) ∧ (bel Q t (g.2.2.2 x) → bel Q' t (g'.2.2.2 x))) : okH M g' Q' A t n a := by
  obtain ⟨h1, h2, h3, h4, h5⟩ := h
  obtain ⟨f1, f2⟩ := f a pa h3
  obtain ⟨r1, r2⟩ := r a pa h3 h2
  exact ⟨h1, f2.trans h2, f1 ▸ h3, fun z => r1 (h4 z), fun z => r2 (h5 z)⟩
theorem rk_mv {k : Kd} {v : Int32} (h : rk pl G m pri W k v) (f : ∀ x, 10 ≤ (G x).1 → m' (W + x).toNat = m (W + x).toNat) : rk pl G m' pri W k v := by
  obtain ⟨k1, k2, k3⟩ := k
  match k1, h with
  | 0, _ => trivial
  | 1, h => exact h
  | 2, h => exact h
  | 3, h => exact h
  | 4, h => exact h
  | 5, h => exact ⟨h.1, h.2.trans (f _ h.1).symm⟩
  | 6, h =>
    obtain ⟨h1, i, h2, h3⟩ := h
    exact ⟨h1, i, h2, by show v = m' (W + k3).toNat + nI i; rw [f _ h1]; exact h3⟩
  | 7, h => exact h
  | 8, h => exact h
  | 9, h => exact h
  | n + 10, h => exact h.elim
theorem hk_mv {P : Nat → Prop} {k : Kd} {v : Int32} (h : hk pl M g Q A t pri G m W hi k v) (pp : ∀ a, W + hi ≤ a ∨ a < 16 → P a) (f : ∀ x, 10 ≤ (G x).1 → m' (W + x).toNat = m (W + x).toNat) (fg : ∀ x, P x → g.1 x ∈ A → g'.1 x = g.1 x ∧ g'.2.1 x = g.2.1 x) (fr : ∀ x, P x → g.1 x ∈ A → g.2.1 x = 2 → (bel Q t (g.2.2.1 x) → bel Q' t (g'.2.2.1 x)) ∧ (bel Q t (g.2.2.2 x) → bel Q' t (g'.2.2.2 x))) : hk pl M g' Q' A t pri G m' W hi k v := by
  obtain ⟨h1, h2, h3⟩ := h
  refine ⟨fun z => rk_mv (h1 z) f, fun z => ?_, fun z => ?_⟩
  · obtain ⟨a, k1, k2, k3⟩ := h2 z
    exact ⟨a, k1, k2, fun i hi => (k3 i hi).mv (pp _ (Or.inl (by omega))) fg⟩
  · obtain ⟨a, k1, k2, k3⟩ := h3 z
    exact ⟨a, k1, k2, k3.mv (pp _ k2) fg fr⟩
/-- a word that is held is of role 3 -/
theorem wk_h {off : Int} (h : wk pl M g Q A t pri G m W hi off) (z : 10 ≤ (G off).1) : 0 ≤ W + off ∧ 16 ≤ (W + off).toNat ∧ (W + off).toNat < M ∧ g.2.1 (W + off).toNat = 3 ∧ g.1 (W + off).toNat ∈ A ∧ hk pl M g Q A t pri G m W hi (G off) (m (W + off).toNat) := by
  rcases h with h | ⟨h0, h0', ⟨e, -⟩ | ⟨e, -⟩ | ⟨-, h⟩⟩
  · omega
  · omega
  · omega
  · exact ⟨h0, h0', h⟩
theorem wk_m {P : Nat → Prop} (h : ∀ off, wk pl M g Q A t pri G m W hi off) (p1 : ∀ off, (G off).1 ≠ 0 → P (W + off).toNat) (f : ∀ x, P x → g.1 x ∈ A → g.2.1 x = 3 → m' x = m x) : ∀ x, 10 ≤ (G x).1 → m' (W + x).toNat = m (W + x).toNat := by
  intro x hx
  obtain ⟨-, -, -, k1, k2, -⟩ := wk_h (h x) hx
  exact f _ (p1 x (by omega)) k2 k1
theorem wk_mv {P : Nat → Prop} (h : ∀ off, wk pl M g Q A t pri G m W hi off) (p1 : ∀ off, (G off).1 ≠ 0 → P (W + off).toNat) (p2 : ∀ a, W + hi ≤ a ∨ a < 16 → P a) (f : stb P m m' g g' Q Q' A t) : ∀ off, wk pl M g' Q' A t pri G m' W hi off := by
  intro off
  have fm := wk_m h p1 f.1
  rcases h off with h | ⟨h0, h0', h⟩
  · exact Or.inl h
  · refine Or.inr ⟨h0, h0', ?_⟩
    rcases h with ⟨e, h⟩ | ⟨e, h⟩ | ⟨e1, h2, h3, h4, h5⟩
    · exact Or.inl ⟨e, h.mv (p1 off (by omega)) f.2.1⟩
    · exact Or.inr (Or.inl ⟨e, h.mv (p1 off (by omega)) f.2.1 f.2.2⟩)
    · obtain ⟨f1, f2⟩ := f.2.1 _ (p1 off (by omega)) h4
      refine Or.inr (Or.inr ⟨e1, h2, f2.trans h3, f1 ▸ h4, ?_⟩)
      rw [fm off e1]
      exact hk_mv h5 p2 fm f.2.1 f.2.2
theorem inj_mv {wr : Nat → Nat} (h : inj G m W wr) (f : ∀ x, 10 ≤ (G x).1 → m' (W + x).toNat = m (W + x).toNat) : inj G m' W wr := by
  have e : ∀ o, adS G m' W o = adS G m W o := by
    intro o
    unfold adS
    split
    · rename_i c; rw [f o (by omega)]
    · rfl
  exact ⟨fun o o' a b => by rw [e, e]; exact h.1 o o' a b, fun o c a b => by rw [e]; exact h.2 o c a b⟩
end
section
variable {C : Cx} {M : Nat} {s s' : Cr} {w w' : Wd} {g g' : Gh} {Q Q' : Thr} {t b : Nat} {th th' tb : Th}
theorem fOK_mv {P : Nat → Prop} {f : Fm} (h : fOK C M s g Q t th f) (e : th'.2.2 = th.2.2) (ep : thP th' = thP th) (p1 : ∀ off, (zG f.2.2 off).1 ≠ 0 → P (f.1 + off).toNat) (p2 : ∀ a, f.1 + (zI f.2.2).2 ≤ a ∨ a < 16 → P a) (k : stb P s.2.1 s'.2.1 g g' Q Q' (t :: thA th) t) : fOK C M s' g' Q' t th' f := by
  obtain ⟨h1, h2, h3, h4, h5, h6⟩ := h
  have eA : thA th' = thA th := by unfold thA; rw [e]
  unfold fOK
  rw [eA, ep]
  refine ⟨h1, by unfold thL; rw [e]; exact h2, by unfold thH; rw [e]; exact h3, wk_mv h4 p1 p2 k, fun c hc => (h5 c hc).mv (p2 c (Or.inr (by omega))) k.2.1 k.2.2, inj_mv h6 (wk_m h4 p1 k.1)⟩
theorem ctl_mv {W n : Nat} (h : ctl g t W n) (kg : ∀ k, k ≤ n → g.1 (W - k) = t → g'.1 (W - k) = g.1 (W - k) ∧ g'.2.1 (W - k) = g.2.1 (W - k)) : ctl g' t W n := fun k hk => ⟨(kg _ hk (h k hk).2).2.trans (h k hk).1, (kg _ hk (h k hk).2).1.trans (h k hk).2⟩
theorem lnk_mv {P : Nat → Prop} (k4 : ∀ x, P x → g.1 x = t → g.2.1 x = 4 → s'.2.1 x = s.2.1 x) (kg : ∀ x, P x → g.1 x = t → g'.1 x = g.1 x ∧ g'.2.1 x = g.2.1 x) : ∀ L, (∀ f r, L = f :: r → ∀ a, f.1 + (zI f.2.2).2 ≤ a → P a) → lnk C s g t L → lnk C s' g' t L
  | [], _, h => h
  | [_], _, h => h
  | f :: f1 :: r, p, h => by
    obtain ⟨h1, h2, h3, h5, h6, h8, h9, h10, h11, h12⟩ := h
    have pf := p f _ rfl
    refine ⟨h1, h2, h3, by rw [k4 _ (pf _ (by omega)) (h6 4 (by omega)).2 (h6 4 (by omega)).1]; exact h5, ctl_mv h6 (fun k hk => kg _ (pf _ (by omega))), h8, h9, h10, h11, lnk_mv k4 kg (f1 :: r) (fun f' r' ef a ha => ?_) h12⟩
    cases ef
    exact pf a (by omega)
/-- callers lie above -/
theorem lnk_up : ∀ (f : Fm) (r : List Fm), lnk C s g t (f :: r) → ∀ f' ∈ r, f.1 + (zI f.2.2).2 + 4 ≤ f'.1 ∧ (∀ off, (zG f'.2.2 off).1 ≠ 0 → 0 < off)
  | f, [], _, f', h => nomatch h
  | f, f1 :: r, h, f', hf => by
    obtain ⟨-, -, h3, -, -, -, -, -, h11, h12⟩ := h
    rcases List.mem_cons.mp hf with z | z
    · subst z; exact ⟨h3, h11⟩
    · have := lnk_up f1 r h12 f' z
      exact ⟨by omega, this.2⟩
theorem rOK_mv {pri W : Nat} {z : Sg} {a b c : Int32} {m m' : Nat → Int32} (h : rOK C m pri W z a b c) (f : ∀ x, 10 ≤ (zG z x).1 → m' (W + x).toNat = m (W + x).toNat) : rOK C m' pri W z a b c := ⟨rk_mv h.1 f, rk_mv h.2.1 f, rk_mv h.2.2 f⟩
/-- an ALT's words stay -/
theorem aOK_mv {A : List Nat} {W pri st : Nat} {z : Sg} (h : aOK C s w g A t W z pri st) (k3 : ∀ x, g.1 x ∈ A → g.2.1 x = 3 → s'.2.1 x = s.2.1 x) (kg : ∀ x, g.1 x ∈ A → g'.1 x = g.1 x ∧ g'.2.1 x = g.2.1 x) (kt : ∀ x, g.1 x ∈ A → g.2.1 x = 2 → g.2.2.2 x = t → g'.2.2.2 x = t)
    (kc : s'.2.1 W = s.2.1 W ∧ s'.2.1 (W - 3) = s.2.1 (W - 3)) (kh : (zL z).2.1 ≠ [] → ∀ x, g.1 x ∈ A → g.2.1 x = 2 → g.2.2.2 x = t → hasC s w x (nI (2 * W + pri)) → hasC s' w' x (nI (2 * W + pri))) : aOK C s' w' g' A t W z pri st := by
  intro ne
  obtain ⟨h1, h2, h3, h4, h5⟩ := h ne
  have eo : ∀ (i : Nat) (b : Bool) (n : Nat), (zL z).2.1[i]? = some (b, n) → s'.2.1 (W + (zL z).1 + 2 * i).toNat = s.2.1 (W + (zL z).1 + 2 * i).toNat := fun i b n hi => k3 _ (h1 i b n hi).1.2 (h1 i b n hi).1.1
  have ec : ∀ (i n : Nat), (zL z).2.1[i]? = some (true, n) → gCh s' W (zL z).1 i = gCh s W (zL z).1 i := fun i n hi => by
    have := (h1 i true n hi).2 rfl
    unfold gCh
    rw [k3 _ this.1.2 this.1.1]
  rw [kc.1, kc.2]
  refine ⟨fun i b n hi => ?_, h2, h3, fun z3 => ?_, h5⟩
  · obtain ⟨⟨a1, a2⟩, a3⟩ := h1 i b n hi
    obtain ⟨x1, x2⟩ := kg _ a2
    refine ⟨⟨x2.trans a1, x1 ▸ a2⟩, fun zb => ?_⟩
    subst zb
    obtain ⟨⟨b1, b2⟩, b3, b4, b5, b6⟩ := a3 rfl
    obtain ⟨y1, y2⟩ := kg _ b2
    obtain ⟨y3, y4⟩ := kg _ b4
    rw [ec i n hi]
    exact ⟨⟨y2.trans b1, y1 ▸ b2⟩, y4.trans b3, y3 ▸ b4, kt _ b4 b3 b5, (k3 _ b2 b1).trans b6⟩
  · rcases h4 z3 with k | ⟨i, k1, k2, k3', b, n, k4, k5⟩
    · exact Or.inl k
    · refine Or.inr ⟨i, k1, k2, ?_, b, n, k4, fun zb => ?_⟩
      · unfold gOpn at k3' ⊢
        rw [eo i b n k4]; exact k3'
      · subst zb
        obtain ⟨-, b3, b4, b5, -⟩ := (h1 i true n k4).2 rfl
        rw [ec i n k4]
        exact kh ne _ b4 b3 b5 (k5 rfl)
theorem aEn_mv {A : List Nat} {W : Nat} {z : Sg} {c : Nat} (h1 : aRl s g A t W z) (h : aEn s W z c) (k3 : ∀ x, g.1 x ∈ A → g.2.1 x = 3 → s'.2.1 x = s.2.1 x) : aEn s' W z c := by
  obtain ⟨i, n, a1, a2, a3, a4, a5⟩ := h
  obtain ⟨⟨b1, b2⟩, b3⟩ := h1 i true n a3
  refine ⟨i, n, a1, a2, a3, ?_, ?_⟩
  · unfold gOpn at a4 ⊢
    rw [k3 _ b2 b1]; exact a4
  · unfold gCh at a5 ⊢
    rw [k3 _ (b3 rfl).1.2 (b3 rfl).1.1]; exact a5
/-- children and parent -/
theorem uOK_mv (h : uOK Q b tb) (rc : ∀ c ∈ thK tb, ∀ tc, Q c = some tc → ∃ tc', Q' c = some tc' ∧ thA tc' = thA tc) (ru : ∀ u tu, u ∈ thA tb → Q u = some tu → b ∈ thK tu → ∃ tu', Q' u = some tu' ∧ thA tu' = thA tu ∧ b ∈ thK tu' ∧ thO tu' = thO tu ∧ ∀ fu ru, thF tu = fu :: ru → ∃ fu' ru', thF tu' = fu' :: ru' ∧ fu'.1 = fu.1) : uOK Q' b tb := by
  obtain ⟨h1, h2, h3, f, h4, h5, h6⟩ := h
  refine ⟨h1, fun c hc => ?_, h3, f, h4, h5, ?_⟩
  · obtain ⟨tc, k1, k2⟩ := h2 c hc
    obtain ⟨tc', k3, k4⟩ := rc c hc tc k1
    exact ⟨tc', k3, k4.trans k2⟩
  · revert h6 ru
    cases thA tb with
    | nil => exact fun _ z => z
    | cons u r =>
      intro ru
      rintro ⟨k1, tu, fu, ru', k2, k3, k4, k5, k6, k7⟩
      obtain ⟨tu', l1, l2, l3, l4, l5⟩ := ru u tu List.mem_cons_self k2 k4
      obtain ⟨fu', ru2, l6, l7⟩ := l5 fu ru' k5
      exact ⟨k1, tu', fu', ru2, l1, l2.trans k3, l3, l6, by rw [l7]; exact k6, by rw [l4]; exact k7⟩
theorem hOK_mv {W j : Nat} (h : hOK C M s g t th W j) (k4 : ∀ x, g.1 x = t → g.2.1 x = 4 → W < x → s'.2.1 x = s.2.1 x) (kg : ∀ x, g.1 x = t → g'.1 x = g.1 x ∧ g'.2.1 x = g.2.1 x) : hOK C M s' g' t th W j := by
  obtain ⟨h1, h2, h3, h4, h5, h6⟩ := h
  have f : ∀ i : Nat, i < 3 → s'.2.1 (W + (thO th).1 + i).toNat = s.2.1 (W + (thO th).1 + i).toNat := fun i hi => k4 _ (h2 i hi).2.2 (h2 i hi).2.1 (by omega)
  refine ⟨h1, fun i hi => ?_, ?_, ?_, ?_, h6⟩
  · obtain ⟨a1, a2, a3⟩ := h2 i hi
    exact ⟨a1, (kg _ a3).2.trans a2, (kg _ a3).1.trans a3⟩
  · have := f 0 (by omega)
    rw [show (W : Int) + (thO th).1 + (0 : Nat) = W + (thO th).1 by omega] at this
    rw [this]; exact h3
  · have := f 1 (by omega)
    rw [show (W : Int) + (thO th).1 + (1 : Nat) = W + (thO th).1 + 1 by omega] at this
    rw [this]; exact h4
  · have := f 2 (by omega)
    rw [show (W : Int) + (thO th).1 + (2 : Nat) = W + (thO th).1 + 2 by omega] at this
    rw [this]; exact h5
/-- a thread that is not touched -/
theorem keep (h : tOK C M s w g Q b tb)
    (k3 : ∀ x, g.1 x ∈ b :: thA tb → g.2.1 x = 3 → s'.2.1 x = s.2.1 x)
    (k4 : ∀ x, g.1 x = b → g.2.1 x = 4 → s'.2.1 x = s.2.1 x)
    (kg : ∀ x, g.1 x ∈ b :: thA tb → g'.1 x = g.1 x ∧ g'.2.1 x = g.2.1 x)
    (kr : ∀ x, g.1 x ∈ b :: thA tb → g.2.1 x = 2 → (bel Q b (g.2.2.1 x) → bel Q' b (g'.2.2.1 x)) ∧ (bel Q b (g.2.2.2 x) → bel Q' b (g'.2.2.2 x)))
    (kt : ∀ x, g.1 x ∈ b :: thA tb → g.2.1 x = 2 → (g.2.2.1 x = b → thS tb = 3 → g'.2.2.1 x = b) ∧ (g.2.2.2 x = b → thS tb ≠ 6 → g'.2.2.2 x = b))
    (kb : ∀ x, thL tb ≤ x → x < thH tb → bel Q b (g.1 x) → bel Q' b (g'.1 x))
    (r0 : thS tb = 0 → ∀ i, 8 ≤ i → i ≤ 15 → s'.1 i = s.1 i)
    (r1 : ∀ f r, thF tb = f :: r → (f.1 ∈ s.2.2.1 → f.1 ∈ s'.2.2.1) ∧ (f.1 ∈ s.2.2.2 → f.1 ∈ s'.2.2.2))
    (r2 : thS tb = 2 ∨ thS tb = 3 → s'.2.1 (thC tb) = s.2.1 (thC tb))
    (r7 : thS tb = 7 → (∀ i, 22 ≤ i → i ≤ 27 → s'.1 i = s.1 i) ∧ s'.2.2.2.head? = s.2.2.2.head?)
    (kh : ∀ W j z r x, thF tb = (W, j, z) :: r → (zL z).2.1 ≠ [] → g.1 x ∈ b :: thA tb → g.2.1 x = 2 → g.2.2.2 x = b → hasC s w x (nI (2 * W + thP tb)) → hasC s' w' x (nI (2 * W + thP tb)))
    (rc : ∀ c ∈ thK tb, ∀ tc, Q c = some tc → ∃ tc', Q' c = some tc' ∧ thA tc' = thA tc ∧ thP tc' = thP tc ∧ (thS tb ≠ 5 → thP tc = thP tb → (thS tc = 1 ∨ thS tc = 8) → (thS tc' = 1 ∨ thS tc' = 8)) ∧ (∀ W j z r p zc, thS tb ≠ 5 → thS tc = 8 → thF tb = (W, j, z) :: r → p ∈ (zR z).2 → thF tc = [(W - p.1, p.2.1, zc)] → tc' = tc))
    (ru : ∀ u tu, u ∈ thA tb → Q u = some tu → b ∈ thK tu → ∃ tu', Q' u = some tu' ∧ thA tu' = thA tu ∧ b ∈ thK tu' ∧ thO tu' = thO tu ∧ ∀ fu ru, thF tu = fu :: ru → ∃ fu' ru', thF tu' = fu' :: ru' ∧ fu'.1 = fu.1) : tOK C M s' w' g' Q' b tb := by
  obtain ⟨W, j, z, r, h1, h2, h3, h4, h5, h6, h7, h8, h9, h10, h11, ⟨hp1, hp2, hp3⟩, h13, h14⟩ := h
  have kg1 : ∀ x, g.1 x = b → g'.1 x = g.1 x ∧ g'.2.1 x = g.2.1 x := fun x hx => kg x (by rw [hx]; exact List.mem_cons_self)
  have sb : stb (fun _ => True) s.2.1 s'.2.1 g g' Q Q' (b :: thA tb) b := ⟨fun x _ => k3 x, fun x _ => kg x, fun x _ => kr x⟩
  have wm : ∀ k, k ≤ 3 → s'.2.1 (W - k) = s.2.1 (W - k) := fun k hk => k4 _ (h13 k hk).2 (h13 k hk).1
  have hf0 := h5 (W, j, z) (by rw [h1]; exact List.mem_cons_self)
  have fm := wk_m (P := fun _ => True) hf0.2.2.2.1 (fun _ _ => trivial) (fun x _ => k3 x)
  refine ⟨W, j, z, r, h1, h2, h3, h4, fun f hf => fOK_mv (h5 f hf) rfl rfl (fun _ _ => trivial) (fun _ _ => trivial) sb, lnk_mv (P := fun _ => True) (fun x _ => k4 x) (fun x _ => kg1 x) _ (fun _ _ _ _ _ => trivial) h6, fun x x1 x2 => kb x x1 x2 (h7 x x1 x2), uOK_mv h8 (fun c hc tc e => ?_) ru, ?_, fun hs => ?_, h11, ⟨hp1, fun ne => ?_, fun z0 n5 => ⟨(hp3 z0 n5).1, fun p hp => ?_⟩⟩, ctl_mv h13 (fun k _ => kg1 _), h14⟩
  · obtain ⟨tc', a1, a2, -⟩ := rc c hc tc e
    exact ⟨tc', a1, a2⟩
  · unfold sOK at h9 ⊢
    match hs : thS tb, h9 with
    | 0, h9 =>
      have rr := r0 hs
      obtain ⟨a1, a2, a3, a4, a5⟩ := h9
      refine ⟨by rw [rr 14 (by omega) (by omega)]; exact a1, by rw [rr 12 (by omega) (by omega)]; exact a2, by rw [rr 15 (by omega) (by omega)]; exact a3, by rw [rr 11 (by omega) (by omega), rr 13 (by omega) (by omega)]; exact a4, ?_⟩
      rw [rr 8 (by omega) (by omega), rr 9 (by omega) (by omega), rr 10 (by omega) (by omega)]
      exact rOK_mv a5 fm
    | 1, h9 =>
      obtain ⟨a1, a2, a3⟩ := h9
      refine ⟨?_, by rw [wm 1 (by omega)]; exact a2, a3⟩
      obtain ⟨b1, b2⟩ := r1 _ _ h1
      by_cases c : thP tb = 0
      · rw [if_pos c] at a1 ⊢; exact b1 a1
      · rw [if_neg c] at a1 ⊢; exact b2 a1
    | 2, h9 =>
      obtain ⟨a1, a2, a3, a4, a5, a6, a7, a, a8, a9⟩ := h9
      exact ⟨by rw [r2 (Or.inl hs)]; exact a1, by rw [wm 1 (by omega)]; exact a2, a3, by rw [wm 3 (by omega)]; exact a4, (kt _ a7 a6).2 a5 (by omega), (kg _ a7).2.trans a6, (kg _ a7).1 ▸ a7, a, by rw [wm 2 (by omega)]; exact a8, a9.mv (P := fun _ => True) trivial (fun x _ => kg x)⟩
    | 3, h9 =>
      obtain ⟨a1, a2, a3, a4, a5, a6, a7⟩ := h9
      exact ⟨by rw [r2 (Or.inr hs)]; exact a1, by rw [wm 1 (by omega)]; exact a2, a3, by rw [wm 3 (by omega)]; exact a4, (kt _ a7 a6).1 a5 hs, (kg _ a7).2.trans a6, (kg _ a7).1 ▸ a7⟩
    | 4, h9 => exact ⟨by rw [wm 1 (by omega)]; exact h9.1, h9.2⟩
    | 5, h9 => exact h9
    | 6, h9 => exact h9
    | 7, h9 =>
      obtain ⟨rr, rl⟩ := r7 hs
      obtain ⟨a1, a2, a3, a4, a5, a6⟩ := h9
      refine ⟨a1, rl.trans a2, by rw [rr 22 (by omega) (by omega)]; exact a3, by rw [rr 23 (by omega) (by omega)]; exact a4, by rw [wm 1 (by omega), rr 27 (by omega) (by omega)]; exact a5, ?_⟩
      rw [rr 24 (by omega) (by omega), rr 25 (by omega) (by omega), rr 26 (by omega) (by omega)]
      exact rOK_mv a6 fm
    | 8, h9 => exact h9
    | n + 9, h9 => exact h9.elim
  · exact aOK_mv (h10 hs) k3 kg (fun x a1 a2 a3 => (kt x a1 a2).2 a3 (by omega)) ⟨wm 0 (by omega), wm 3 (by omega)⟩ (fun nl x a1 a2 a3 => kh W j z r x h1 nl a1 a2 a3)
  · obtain ⟨a1, a2⟩ := hp2 ne
    refine ⟨⟨hOK_mv a1.1 (fun x x1 x2 _ => k4 x x1 x2) kg1, a1.2⟩, fun n5 => ?_⟩
    obtain ⟨b1, c, hc, tc, b2, b3⟩ := a2 n5
    refine ⟨fun c hc tc' e ep => ?_, c, hc, ?_⟩
    · obtain ⟨tc, k1, -⟩ := h8.2.1 c hc
      obtain ⟨tc1, l1, l2, l3, l4, l5⟩ := rc c hc tc k1
      rw [l1] at e
      cases e
      exact l4 n5 (l3 ▸ ep) (b1 c hc tc k1 (l3 ▸ ep))
    · obtain ⟨tc1, l1, l2, l3, l4, l5⟩ := rc c hc tc b2
      exact ⟨tc1, l1, l3.trans b3⟩
  · obtain ⟨a1, c, hc, tc, zc, a2, a3, a4, a5⟩ := (hp3 z0 n5).2 p hp
    obtain ⟨tc1, l1, l2, l3, l4, l5⟩ := rc c hc tc a2
    have := l5 W j z r p zc n5 a3 h1 hp a4
    subst this
    exact ⟨a1, c, hc, tc1, zc, l1, a3, a4, a5⟩
end
