/-! the twin's coder: WHILE, SEQ FOR, IF -/
section
variable {sy : List Sym} {pa : List (List Nat)} {pz : List (Nat × Nat)} {vis : List Nat} {rh : Nat → Nat × Nat} {D : Nat → Int32} {lv al : Nat} {r : Nat → Int32} {u : Nat}
/-- a node's declared names -/
theorem g_open {Dp k f c n lc lo hi w now : Nat} {wd : Nat → Int32} {ve : List (Nat × Nat)} {h : mj_H} (hh : hi ≤ 7000) (b : tD u lo hi h k w f c) (A : eG sy vis wd r now h) (hf : f + c ≤ sy.length) (hd : ∀ i, i < c → f + i ∈ vis ∧ dcl sy (f + i)) (hK : KG n lc h) :
    ∃ h1 x2, mj_R mg (Dp + 2) mq_306 (0, [(0, vR 15 0), (1, vI (nI k))], [], h) = mj_R mg (Dp + 2) mq_306 (7, [(2, vI x2), (0, vR 15 0), (1, vI (nI k))], [], h1) ∧ TyG sT0 n lc ve (dcW sy wd f c) lc h h1 ∧ h1.1 95 0 k + h1.1 96 0 k ≤ x2 := sorry
/-- WHILE -/
theorem g_while {k a n lc Dp slo shi N tp lo hi f0 c0 m : Nat} {x2 : Int32} {q : Nat} {e : Tm} {ve : List (Nat × Nat)} {h : mj_H} {P : List It} (hh : hi ≤ 7000) (we : wfX sy vis e) (b : tD u lo hi h k 31 f0 c0) (cd : h.1 95 0 k + h.1 96 0 k ≤ x2) (b1 : h.1 89 0 k = nI a) (be : tEF u h e lo m a q) (hm : m ≤ hi) (S : qY sy pa pz vis rh D lv al r h) (hK : KG n lc h) (hD : 80 ≤ Dp) (hN : P.length = N) (hb : lc + ((7000 - n) + (lE e + 2 + tp)) < 19990)
    (ih : inG (slo, shi, lv, al) n lc h (n + nE sy e + 1) N tp Dp P (h.1 93 0 k)) :
    ∃ h' lc', mj_R mg (Dp + 1) mq_306 (7, [(2, vI x2), (0, vR 15 0), (1, vI (nI k))], [], h) = some (.inl (none, h')) ∧ TyG (slo, shi, lv, al) n lc ve (kE sy (wdO rh D) r e q n ++ iW 10 (n + nE sy e + N + 2) :: (P ++ [iW 0 n])) lc' h h' ∧ lbT n lc lc' (nE sy e + N + 2) (lE e + 2 + tp) := sorry
/-- SEQ FOR -/
theorem g_for {k a b0 s n lc Dp slo shi N tp lo hi f0 c0 m1 m2 q : Nat} {e1 e2 : Tm} {ve : List (Nat × Nat)} {h : mj_H} {P : List It} (hh : hi ≤ 7000) (w1 : wfX sy vis e1) (w2 : wfX sy vis e2) (hs : s < 200) (hsv : s ∉ vis) (b : tD u lo hi h k 27 f0 c0) (x0 : h.1 89 0 k = nI (tw s)) (x1 : h.1 91 0 k = nI a) (x2 : h.1 92 0 k = nI b0) (x81 : h.1 81 0 (s + 2) = nI q) (hm : m1 ≤ m2 ∧ m2 ≤ hi) (b1 : tEF u h e1 lo m1 a (q + 2)) (b2 : tEF u h e2 m1 m2 b0 (q + 2)) (S : qY sy pa pz vis rh D lv al r h) (hK : KG n lc h) (hD : 80 ≤ Dp) (hN : P.length = N) (hb : lc + ((7000 - n) + (lE e1 + lE e2 + 2 + tp)) < 19990)
    (ih : inG (slo, shi, lv, al) n lc h (n + nE sy e1 + nE sy e2 + 6) N tp Dp P (h.1 93 0 k)) :
    ∃ h' lc', mj_R mg (Dp + 1) mq_309 (0, [(0, vR 15 0), (1, vI (nI k))], [], h) = some (.inl (none, h')) ∧ TyG (slo, shi, lv, al) n lc ve (kE sy (wdO (upF rh s lv q) D) r e1 (q + 2) n ++ iV 13 (D lv + nI q) :: (kE sy (wdO (upF rh s lv q) D) r e2 (q + 2) (n + nE sy e1 + 1) ++ [iV 13 (D lv + nI q + 1), iV 7 (D lv + nI q + 1), iV 4 0, iO 6, iW 10 (n + nE sy e1 + nE sy e2 + N + 13)]
      ++ P ++ [iV 7 (D lv + nI q), iV 8 1, iV 13 (D lv + nI q), iV 7 (D lv + nI q + 1), iV 8 (-1), iV 13 (D lv + nI q + 1), iW 0 (n + nE sy e1 + nE sy e2 + 2)])) lc' h h' ∧ lbT n lc lc' (nE sy e1 + nE sy e2 + N + 13) (lE e1 + lE e2 + 2 + tp) := sorry
end

