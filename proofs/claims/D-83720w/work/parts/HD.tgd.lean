/-! the twin's coder: ALT's rows -/
def wS (SL : List Nat) (j : Nat) : Nat := if j ∈ SL then 1 else 0
theorem wS_1 {SL : List Nat} {j : Nat} : wS SL j = 1 ↔ j ∈ SL := sorry
def ascL : List Nat → Prop
  | [] => True
  | a :: r => (∀ x ∈ r, a < x) ∧ ascL r
/-- guards' labels lie in their row -/
def rowA (h : mj_H) : List Nat → Nat → Prop
  | [], _ => True
  | L :: r, i => h.1 130 0 i = nI L ∧ rowA h r (i + 1)
theorem rowA.mv {h h' : mj_H} : ∀ (SL : List Nat) (i : Nat), rowA h SL i → (∀ j, i ≤ j → j < i + SL.length → h'.1 130 0 j = h.1 130 0 j) → rowA h' SL i := sorry
/-- labels of guards, and where their bodies begin -/
def stG (sy : List Sym) (pa : List (List Nat)) : Tm → List Nat → Nat → List (Nat × Nat)
  | .elem (.div (.index _) (.elem _ (.elem c (.elem v p)))) gs, L :: SL, st => (L, st) :: stG sy pa gs SL (st + nB3 sy pa c v p)
  | _, _, _ => []
section
variable {sy : List Sym} {pa : List (List Nat)} {pz : List (Nat × Nat)} {vis : List Nat} {wd r : Nat → Int32} {now : Nat} {lv al u : Nat}
theorem nI_le0 {k : Nat} (h : 1 ≤ k) (h2 : k < 2 ^ 31) : ¬ nI k ≤ 0 := sorry
/-- loop 40 -/
theorem g_alA {hi w f Dp kk q0 : Nat} {x2 x3 : Int32} {ve : List (Nat × Nat)} (hh : hi ≤ 7000) (hkk : kk < 7000) (hal : al < 40) (hD : 80 ≤ Dp) : ∀ (gs : Tm) (k n l lo : Nat) (x : Int32) (h : mj_H), wfH sy vis gs → (∃ l vis slo shi, wfQ sy pa gs 3 l vis slo shi) → tQF sy pz pa h gs 3 0 0 x lo hi f lv → 1 ≤ lo → h.1 97 0 kk = nI w → eG sy vis wd r now h → KG n l h → k + tmN gs ≤ 8 → l + tmN gs + lH gs < 19990 →
    ∃ h' l' SL, mj_R mg (Dp + 1) mq_312 (40, [(6, vI x), (5, vI (nI k)), (4, vI (nI (8 * al))), (3, vI x3), (2, vI x2), (0, vR 15 0), (1, vI (nI kk))], [], h) = mj_R mg (Dp + 1) mq_312 (40, [(6, vI 0), (5, vI (nI (k + tmN gs))), (4, vI (nI (8 * al))), (3, vI x3), (2, vI x2), (0, vR 15 0), (1, vI (nI kk))], [], h') ∧ (SL.length = tmN gs ∧ ascL SL ∧ (∀ L ∈ SL, l < L ∧ L ≤ l')) ∧ rowA h' SL (8 * al + k) ∧ TyM (0, 0, 40, al) n (wS SL) l ve (kH1 sy wd r gs (w + 2 * k) f n) l' h h' ∧ l' ≤ l + tmN gs + lH gs ∧ ∀ j, j < 8 * al + k → h'.1 130 0 j = h.1 130 0 j := sorry
end

