/-! the twin: a processor's code is typed -/
theorem plS_ge {L : Nat → Nat} (h : ∀ i, 1 ≤ L i) : ∀ k, k ≤ plS L k := sorry
theorem cdV_at {vl : Nat → Nat → Prop} {h : mj_H} : ∀ (C : List It) (n i : Nat) (it : It), cdV vl h n C → C[i]? = some it → itV vl h (n + i) it := sorry
theorem TV_of {C : List It} {lo lc m : Nat} {P : Nat → Nat} {h : mj_H} (hc : cdG lo lc [] h 0 C) (ok : okL m C.length C) (hm : ∀ p, p < m → P p ≤ C.length ∧ ∃ l, (1 ≤ l ∧ l < 20000) ∧ h.1 124 0 p = nI l ∧ h.1 122 0 l = nI (P p)) : TV (rsL P 0 C) h := sorry
section
variable {sy : List Sym} {pz : List (Nat × Nat)} {pa : List (List Nat)} {bs : List Tm} {nl : Nat} {sg : Nat → Nat × Nat} {h0 : mj_H}
def gGb (pr : Nat) (h h' : mj_H) : Prop := (∀ g i j, ¬ ((116 ≤ g ∧ g ≤ 124) ∨ (g = 15 ∧ (j = 70 ∨ j = 77 ∨ j = 79 ∨ j = 81 ∨ j = 89)) ∨ g = 85 ∨ g = 128 ∨ g = 129 ∨ g = 130 ∨ (g = 125 ∧ 6000 * pr ≤ j ∧ j < 6000 * pr + 6000) ∨ ((g = 126 ∨ g = 127) ∧ j = pr)) → h'.1 g i j = h.1 g i j) ∧ h'.2 = h.2
theorem ok_Al {R : Tm} {sr : Nat × Nat} (t3 : bs.length = pa.length) (hY : ∀ k B, bs[k]? = some B → bdy sy pa nl k B (sg k)) (rr : rut sy pa nl R sr) : okL bs.length (kAl sy pz pa bs R).length (kAl sy pz pa bs R) := sorry
/-- genAll -/
theorem t_gen {Dp pr xr lo hi : Nat} {R : Tm} {sr : Nat × Nat} (T : tTr sy pz pa bs nl sg h0) (hD : 170 ≤ Dp) (hS : tSu bs bs.length + tWl R 0 ≤ 12900) (hp : pr < 6) (rr : rut sy pa nl R sr) (hsr : sr.2 ≤ sy.length) (h108 : h0.1 108 0 pr = nI xr) (hlh : 1 ≤ lo ∧ hi ≤ 7000) (rq : tQF sy pz pa h0 R 0 0 0 (nI xr) lo hi 1 0) (hz : (mz sy pz R 0).2 < 1000000) :
    mP (mj_R mg (Dp + 1) mq_318 (0, [(0, vR 15 0), (1, vI (nI pr))], [], h0)) (fun v h' => gGb pr h0 h' ∧ ((6000 < (kAl sy pz pa bs R).length ∧ v = some (vI 0)) ∨ ((kAl sy pz pa bs R).length ≤ 6000 ∧ ∃ L, stl (kX sy pz pa bs R) (in0 (kX sy pz pa bs R)) L ∧ ((6000 < plS L (kAl sy pz pa bs R).length ∧ v = some (vI 0)) ∨
      (plS L (kAl sy pz pa bs R).length ≤ 6000 ∧ v = some (vI 1) ∧ h'.1 126 0 pr = nI (plS L (kAl sy pz pa bs R).length) ∧ h'.1 127 0 pr = nI (plS L (kSt sy pz pa bs bs.length)) ∧ ∀ j x, (kX sy pz pa bs R)[j]? = some x → ∀ t, t < L j → h'.1 125 0 (6000 * pr + plS L j + t) = bE x.1 (vlS L x) (L j - 1 - t)))))) := sorry
end

