/-! the component's coder: ALT's rows -/
/-- a row of guards -/
def wfH (sy : List Sym) (vis : List Nat) : Tm → Prop
  | .elem (.div (.index _) (.elem e (.elem c (.elem v _)))) gs => (((e = .null ∧ c ≠ .null) ∨ wfX sy vis e) ∧ ((c = .null ∧ v = .null) ∨ (wfC sy vis c ∧ wfV sy vis v))) ∧ wfH sy vis gs
  | .null => True
  | _ => False
theorem wfQ_H {sy : List Sym} {pa : List (List Nat)} {vis : List Nat} {l : Nat} : ∀ (gs : Tm) (slo shi : Nat), wfQ sy pa gs 3 l vis slo shi → wfH sy vis gs := sorry
theorem wfH_no {sy : List Sym} {vis : List Nat} {gs : Tm} (h1 : ∀ (u : Nat) (e c v p gs' : Tm), gs = .elem (.div (.index u) (.elem e (.elem c (.elem v p)))) gs' → False) (h2 : gs = .null → False) (w : wfH sy vis gs) : False := sorry
section
variable {sy : List Sym} {vis : List Nat} {wd r : Nat → Int32}
/-- a guard, as it lies in the heap -/
theorem gd_e {lo hi u g : Nat} {h : mj_H} {e c : Tm} (w : (e = .null ∧ c ≠ .null) ∨ wfX sy vis e) (b : (e = .null ∧ h.1 23 0 g = -1) ∨ ∃ a, h.1 23 0 g = nI a ∧ rE u lo hi h e a) (hh : hi ≤ 3100) : (e = .null ∧ h.1 23 0 g = -1) ∨ ∃ a, h.1 23 0 g = nI a ∧ a < 2 ^ 31 ∧ wfX sy vis e ∧ rE u lo hi h e a := sorry
theorem gd_c {lo hi u g : Nat} {h : mj_H} {c v : Tm} (w : (c = .null ∧ v = .null) ∨ (wfC sy vis c ∧ wfV sy vis v)) (b : (c = .null ∧ h.1 24 0 g = -1) ∨ ∃ a b, h.1 24 0 g = nI a ∧ rE u lo hi h c a ∧ h.1 26 0 g = nI b ∧ rE u lo hi h v b) (hh : hi ≤ 3100) : (c = .null ∧ v = .null ∧ h.1 24 0 g = -1) ∨ ∃ a b, h.1 24 0 g = nI a ∧ a < 2 ^ 31 ∧ (wfC sy vis c ∧ rE u lo hi h c a) ∧ h.1 26 0 g = nI b ∧ wfV sy vis v ∧ rE u lo hi h v b := sorry
theorem gd_n {lo hi u g : Nat} {h : mj_H} {c v : Tm} (b : (c = .null ∧ v = .null ∧ h.1 24 0 g = -1) ∨ ∃ a b, h.1 24 0 g = nI a ∧ a < 2 ^ 31 ∧ (wfC sy vis c ∧ rE u lo hi h c a) ∧ h.1 26 0 g = nI b ∧ wfV sy vis v ∧ rE u lo hi h v b) : (isNl c = true ∧ h.1 24 0 g = -1) ∨ (isNl c = false ∧ ¬ h.1 24 0 g = -1) := sorry
/-- loop 44 -/
theorem k_alA {hi w f Dp : Nat} {x1 x2 x4 : Int32} {ve : List (Nat × Nat)} (hh : hi ≤ 3100) (hD : 70 ≤ Dp) : ∀ (gs : Tm) (k n l lo : Nat) (x : Int32) (h : mj_H), wfH sy vis gs → rQ lo hi h gs 3 x → eS sy vis wd r h → CK n l f h → l + lH gs ≤ 12000 →
    ∃ h' l', mj_R mg (Dp + 1) mq_154 (44, [(6, vI x), (5, vI (nI k)), (4, vI x4), (3, vI (nI w)), (2, vI x2), (0, vR 10 0), (1, vI x1)], [], h) = mj_R mg (Dp + 1) mq_154 (44, [(6, vI (-1)), (5, vI (nI (k + tmN gs))), (4, vI x4), (3, vI (nI w)), (2, vI x2), (0, vR 10 0), (1, vI x1)], [], h') ∧ TyC s0 n l ve (kH1 sy wd r gs (w + 2 * k) f n) l' f h h' ∧ l' ≤ l + lH gs := sorry
/-- loop 179 -/
theorem k_alB {hi w f Dp : Nat} {x1 x2 x4 : Int32} {ve : List (Nat × Nat)} (hh : hi ≤ 3100) (hD : 70 ≤ Dp) : ∀ (gs : Tm) (k n l lo : Nat) (x x7 : Int32) (h : mj_H), wfH sy vis gs → rQ lo hi h gs 3 x → CK n l f h →
    ∃ h' x7', mj_R mg (Dp + 1) mq_154 (179, [(6, vI x), (5, vI (nI k)), (7, vI x7), (4, vI x4), (3, vI (nI w)), (2, vI x2), (0, vR 10 0), (1, vI x1)], [], h) = mj_R mg (Dp + 1) mq_154 (179, [(6, vI (-1)), (5, vI (nI (k + tmN gs))), (7, vI x7'), (4, vI x4), (3, vI (nI w)), (2, vI x2), (0, vR 10 0), (1, vI x1)], [], h') ∧ TyC s0 n l ve (kH2 gs (w + 2 * k)) l f h h' := sorry
/-- labels of guards, and where their bodies begin -/
def stA (sy : List Sym) (pa : List (List Nat)) : Tm → Nat → Nat → List (Nat × Nat)
  | .elem (.div (.index _) (.elem _ (.elem c (.elem v p)))) gs, l, st => (l, st) :: stA sy pa gs (l + 1) (st + nB3 sy pa c v p)
  | _, _, _ => []
theorem stA_in {pa : List (List Nat)} : ∀ (gs : Tm) (l st : Nat), ∀ x ∈ stA sy pa gs l st, l ≤ x.1 ∧ x.1 < l + tmN gs := sorry
/-- loop 330 -/
theorem k_alC {pa : List (List Nat)} {hi w f first base bs Dp : Nat} {x1 x2 x4 x8 : Int32} {ve : List (Nat × Nat)} (hh : hi ≤ 3100) (hD : 70 ≤ Dp) (hb : base < 12000) (v2 : (base, bs) ∈ ve) : ∀ (gs : Tm) (k n l lo st : Nat) (x x10 : Int32) (h : mj_H), wfH sy vis gs → rQ lo hi h gs 3 x → CK n l f h → first + k + tmN gs ≤ 12000 → (∀ y ∈ stA sy pa gs (first + k) st, y ∈ ve) →
    ∃ h' x10', mj_R mg (Dp + 1) mq_154 (330, [(9, vI x), (5, vI (nI k)), (10, vI x10), (8, vI x8), (7, vI (nI base)), (6, vI (nI first)), (4, vI x4), (3, vI (nI w)), (2, vI x2), (0, vR 10 0), (1, vI x1)], [], h) = mj_R mg (Dp + 1) mq_154 (330, [(9, vI (-1)), (5, vI (nI (k + tmN gs))), (10, vI x10'), (8, vI x8), (7, vI (nI base)), (6, vI (nI first)), (4, vI x4), (3, vI (nI w)), (2, vI x2), (0, vR 10 0), (1, vI x1)], [], h') ∧ TyC s0 n l ve (kH3 sy pa gs (w + 2 * k) st bs) l f h h' := sorry
theorem row_154c {D : Nat} {h : mj_H} {x1 x2 x3 x4 x5 x6 x7 x8 x9 : Int32} (x10 : Int32) (hx : ¬ x9 = -1) : mj_R mg (D + 1) mq_154 (330, [(9, vI x9), (5, vI x5), (8, vI x8), (7, vI x7), (6, vI x6), (4, vI x4), (3, vI x3), (2, vI x2), (0, vR 10 0), (1, vI x1)], [], h) = mj_R mg (D + 1) mq_154 (330, [(9, vI x9), (5, vI x5), (10, vI x10), (8, vI x8), (7, vI x7), (6, vI x6), (4, vI x4), (3, vI x3), (2, vI x2), (0, vR 10 0), (1, vI x1)], [], h) := sorry
end

