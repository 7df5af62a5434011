/-! the component: a processor's code is typed -/
theorem cdC_at {lo hi : Nat} {ve : List (Nat × Nat)} {h : mj_H} : ∀ (C : List It) (n i : Nat) (it : It), cdC lo hi ve h n C → C[i]? = some it → itC lo hi ve h (n + i) it := sorry
section
variable {sy : List Sym} {pz : List (Nat × Nat)} {pa : List (List Nat)} {bs : List Tm} {nl : Nat} {sg : Nat → Nat × Nat} {h0 : mj_H}
/-- what the heap holds when all is typed -/
theorem TC_of {C : List It} {lc m : Nat} {P : Nat → Nat} {h : mj_H} (hc : cdC 0 lc [] h 0 C) (ok : okL m C.length C) (hm : ∀ p, p < m → P p ≤ C.length ∧ ∃ l, l < 12000 ∧ h.1 65 0 p = nI l ∧ h.1 64 0 l = nI (P p)) : TC (rsL P 0 C) h ∧ LN C.length (in0 (rsL P 0 C)) h := sorry
theorem k_tps {Dp k2 : Nat} {x1 : Int32} (T : cTr sy pz pa bs nl sg h0) (hD : 560 ≤ Dp) : ∀ (j m n lc : Nat) (x4 : Int32) (h : mj_H), m + j = bs.length → JT sy pz pa bs h0 m n lc h →
    ∃ h' n' lc' x4', mj_R mg (Dp + 1) mq_156 (17, [(3, vI (nI m)), (4, vI x4), (0, vR 10 0), (1, vI x1), (2, vR 69 k2)], [], h) = mj_R mg (Dp + 1) mq_156 (17, [(3, vI (nI bs.length)), (4, vI x4'), (0, vR 10 0), (1, vI x1), (2, vR 69 k2)], [], h') ∧ JT sy pz pa bs h0 bs.length n' lc' h' := sorry
theorem kBs_le {m : Nat} : ∀ k, m ≤ k → (kBs sy pz pa bs m).length ≤ (kBs sy pz pa bs k).length := sorry
/-- where PROCs begin -/
def kSt (sy : List Sym) (pz : List (Nat × Nat)) (pa : List (List Nat)) (bs : List Tm) : Nat → Nat := fun p => (kBs sy pz pa bs p).length
def kX (sy : List Sym) (pz : List (Nat × Nat)) (pa : List (List Nat)) (bs : List Tm) (R : Tm) : List Rv := rsL (kSt sy pz pa bs) 0 (kAl sy pz pa bs R)
def gTb (k2 : Nat) (h h' : mj_H) : Prop := (∀ g i j, ¬ (g = 10 ∨ g = 35 ∨ g = 36 ∨ (58 ≤ g ∧ g ≤ 66) ∨ (g = 69 ∧ i = k2)) → h'.1 g i j = h.1 g i j) ∧ h'.2 = h.2
/-- type -/
theorem k_type {Dp k2 xr lo hi : Nat} {R : Tm} {sr : Nat × Nat} (T : cTr sy pz pa bs nl sg h0) (hD : 560 ≤ Dp) (rr : rut sy pa nl R sr) (hsr : sr.2 ≤ sy.length) (rq : rQ lo hi h0 R 0 (nI xr)) (hh : hi ≤ 3100) (cm : cM sy pz h0 R 0 (nI xr)) (hz : (mz sy pz R 0).2 < 1000000) (htl : tL R 0 ≤ 5900) :
    mP (mj_R mg (Dp + 1) mq_156 (0, [(0, vR 10 0), (1, vI (nI xr)), (2, vR 69 k2)], [], h0)) (fun v h' => gTb k2 h0 h' ∧ ((6000 < (kAl sy pz pa bs R).length ∧ v = some (vI (-1))) ∨ ((kAl sy pz pa bs R).length ≤ 6000 ∧ ∃ L, stl (kX sy pz pa bs R) (in0 (kX sy pz pa bs R)) L ∧ ((6000 < plS L (kAl sy pz pa bs R).length ∧ v = some (vI (-1))) ∨
      (plS L (kAl sy pz pa bs R).length ≤ 6000 ∧ v = some (vI (nI (plS L (kAl sy pz pa bs R).length))) ∧ h'.1 10 0 15 = nI (plS L (kSt sy pz pa bs bs.length)) ∧ ∀ j x, (kX sy pz pa bs R)[j]? = some x → ∀ t, t < L j → h'.1 69 k2 (plS L j + t) = B8 (bE x.1 (vlS L x) (L j - 1 - t))))))) := sorry
end

