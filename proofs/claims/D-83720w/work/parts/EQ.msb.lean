/-! the twin measures all -/
/-- what measuring may change -/
def tA (h h' : mj_H) : Prop := (∀ g i j, ¬ ((g = 15 ∧ (j = 59 ∨ j = 60)) ∨ (97 ≤ g ∧ g ≤ 99) ∨ g = 81 ∨ g = 82 ∨ g = 104 ∨ g = 105 ∨ g = 109 ∨ g = 110) → h'.1 g i j = h.1 g i j) ∧ h'.2 = h.2
theorem tA.rf (h : mj_H) : tA h h := sorry
theorem tA.tr {h h1 h2 : mj_H} (a : tA h h1) (b : tA h1 h2) : tA h h2 := sorry
theorem tM9.a {lo hi slo shi : Nat} {h h' : mj_H} (f : tM9 lo hi slo shi h h') : tA h h' := sorry
theorem tA.k {a b : Nat} {h h' : mj_H} (f : tA h h') : tK a b h h' := sorry
def prI (h : mj_H) (fr i : Nat) : Prop := ∀ t, t < i → h.1 81 0 (fr + t + 2) = nI (1 + t) ∧ h.1 82 0 (fr + t + 2) = 0
/-- the tables of bodies and roots, measured -/
def TBm (sy : List Sym) (pz : List (Nat × Nat)) (pa : List (List Nat)) (h : mj_H) (rg : Nat → Nat × Nat) (bs : List Tm) (rt : List (Nat × Tm)) (n r : Nat) : Prop :=
  (∀ k B, bs[k]? = some B → ∃ x, h.1 103 0 k = nI x ∧ (1 ≤ (rg (2 * k)).1 ∧ (rg (2 * k)).1 ≤ x ∧ x < (rg (2 * k)).2) ∧ tQ (pa.take k) (rg (2 * k)).1 (rg (2 * k)).2 h B 0 0 0 (nI x) ∧ (k < n → tQF sy pz (pa.take k) h B 0 0 0 (nI x) (rg (2 * k)).1 (rg (2 * k)).2 (1 + (pa.getD k []).length) 0 ∧ ∀ i q, (pa.getD k [])[i]? = some q → h.1 81 0 (q + 2) = nI (1 + i) ∧ h.1 82 0 (q + 2) = 0)) ∧
  (∀ k, k < 6 → match rt.find? (fun x => x.1 == k) with | none => h.1 108 0 k = 0 | some x => ∃ j, h.1 108 0 k = nI j ∧ (1 ≤ (rg (2 * k + 1)).1 ∧ (rg (2 * k + 1)).1 ≤ j ∧ j < (rg (2 * k + 1)).2) ∧ tQ pa (rg (2 * k + 1)).1 (rg (2 * k + 1)).2 h x.2 0 0 0 (nI j) ∧ (k < r → tQF sy pz pa h x.2 0 0 0 (nI j) (rg (2 * k + 1)).1 (rg (2 * k + 1)).2 1 0 ∧ h.1 109 0 k = nI (1 + (mz sy pz x.2 0).1) ∧ ∃ v, h.1 110 0 k = nI v ∧ cP v (mz sy pz x.2 0).2 ∧ v ≤ 1000000)) ∧
  ∀ k, k < n → h.1 104 0 k = nI (pz.getD k (0, 0)).1 ∧ ∃ v, h.1 105 0 k = nI v ∧ cP v (pz.getD k (0, 0)).2 ∧ v ≤ 1000000
section
variable {sy : List Sym} {pa : List (List Nat)} {bs : List Tm} {rt : List (Nat × Tm)} {pz : List (Nat × Nat)} {rg sg : Nat → Nat × Nat} {nn nl : Nat} {h : mj_H}
theorem par_mem {f n i q : Nat} (h : (List.range' f n)[i]? = some q) : i < n ∧ q = f + i := sorry
theorem TBm.mv {h' : mj_H} {n r z : Nat} (a : TBm sy pz pa h rg bs rt n r) (a0 : rgs nn bs.length rt rg) (hb : ∀ k B, bs[k]? = some B → bdy sy pa nl k B (sg (2 * k))) (hr : ∀ k x, rt.find? (fun x => x.1 == k) = some x → rut sy pa nl x.2 (sg (2 * k + 1))) (f : tA h h') (fd : ∀ s, s ≠ z → usd bs.length rt s → tKS (rg s).1 (rg s).2 (sg s).1 (sg s).2 h h') (ft : ∀ g k, k < n → g = 104 ∨ g = 105 → h'.1 g 0 k = h.1 g 0 k) (fr : ∀ g k, k < r → g = 109 ∨ g = 110 → h'.1 g 0 k = h.1 g 0 k) (hz : (∀ k, k < n → 2 * k ≠ z) ∧ ∀ k, k < r → 2 * k + 1 ≠ z) : TBm sy pz pa h' rg bs rt n r := sorry
theorem TBm.up1 {n r : Nat} (a : TBm sy pz pa h rg bs rt n r) (hc : ∀ B x, bs[n]? = some B → h.1 103 0 n = nI x → tQF sy pz (pa.take n) h B 0 0 0 (nI x) (rg (2 * n)).1 (rg (2 * n)).2 (1 + (pa.getD n []).length) 0 ∧ ∀ i q, (pa.getD n [])[i]? = some q → h.1 81 0 (q + 2) = nI (1 + i) ∧ h.1 82 0 (q + 2) = 0) (ht : h.1 104 0 n = nI (pz.getD n (0, 0)).1 ∧ ∃ v, h.1 105 0 n = nI v ∧ cP v (pz.getD n (0, 0)).2 ∧ v ≤ 1000000) : TBm sy pz pa h rg bs rt (n + 1) r := sorry
theorem TBm.up2 {n r : Nat} (a : TBm sy pz pa h rg bs rt n r) (hc : ∀ x j, rt.find? (fun x => x.1 == r) = some x → h.1 108 0 r = nI j → tQF sy pz pa h x.2 0 0 0 (nI j) (rg (2 * r + 1)).1 (rg (2 * r + 1)).2 1 0 ∧ h.1 109 0 r = nI (1 + (mz sy pz x.2 0).1) ∧ ∃ v, h.1 110 0 r = nI v ∧ cP v (mz sy pz x.2 0).2 ∧ v ≤ 1000000) : TBm sy pz pa h rg bs rt n (r + 1) := sorry
/-- parameters get their words -/
theorem t_prms {D k fr cnt : Nat} {x1 : Int32} {h0 : mj_H} {Q : Option mj_V → mj_H → Prop} (hk : k < 25) (hf : fr + cnt ≤ 200) (h101 : h0.1 101 0 k = nI (fr + 2)) (h102 : h0.1 102 0 k = nI cnt) : ∀ m i h1, i + m = cnt → tM9 1 1 fr (fr + cnt) h0 h1 → h1.1 15 0 59 = h0.1 15 0 59 → prI h1 fr i → (∀ h2, tM9 1 1 fr (fr + cnt) h0 h2 → h2.1 15 0 59 = h0.1 15 0 59 → prI h2 fr cnt → mP (mj_R mg (D + 1) mq_275 (24, [(3, vI (nI cnt)), (2, vI (nI k)), (1, vI x1), (0, vR 15 0)], [], h2)) Q) → mP (mj_R mg (D + 1) mq_275 (24, [(3, vI (nI i)), (2, vI (nI k)), (1, vI x1), (0, vR 15 0)], [], h1)) Q := sorry
theorem t_all1 {D : Nat} {Q : Option mj_V → mj_H → Prop} (hD : 120 ≤ D) (a0 : rgs nn bs.length rt rg) (s0 : rgs sy.length bs.length rt sg) (hnn : nn ≤ 3400) (hbl : bs.length = pa.length) (hp : pa.length ≤ 24) (hs : sy.length ≤ 200)
    (hb : ∀ k B, bs[k]? = some B → bdy sy pa nl k B (sg (2 * k))) (hr : ∀ k x, rt.find? (fun x => x.1 == k) = some x → rut sy pa nl x.2 (sg (2 * k + 1))) (hF : pzT sy pa bs pz) (h46 : h.1 15 0 46 = nI bs.length) (hA : ∀ k, k < pa.length → ∃ fr cnt, pa.getD k [] = List.range' fr cnt ∧ h.1 101 0 k = nI (fr + 2) ∧ h.1 102 0 k = nI cnt ∧ cnt ≤ 6 ∧ fr + cnt ≤ sy.length) (h80 : ∀ s, s < sy.length → h.1 80 0 (s + 2) = nI (szT (srO sy s) (szO sy s)))
    (K : ∀ h2, tA h h2 → TBm sy pz pa h2 rg bs rt bs.length 0 → mP (mj_R mg (D + 1) mq_275 (155, [(2, vI 0), (1, vI (bI (ftA (ft1 pz) bs.length))), (0, vR 15 0)], [], h2)) Q) :
    ∀ m k h1, k + m = bs.length → tA h h1 → TBm sy pz pa h1 rg bs rt k 0 → mP (mj_R mg (D + 1) mq_275 (4, [(2, vI (nI k)), (1, vI (bI (ftA (ft1 pz) k))), (0, vR 15 0)], [], h1)) Q := sorry
theorem t_all2 {D n : Nat} {b0 : Bool} (hD : 120 ≤ D) (a0 : rgs nn bs.length rt rg) (s0 : rgs sy.length bs.length rt sg) (hnn : nn ≤ 3400) (hbl : bs.length = pa.length) (hp : pa.length ≤ 24) (hs : sy.length ≤ 200) (hn : n = bs.length)
    (hb : ∀ k B, bs[k]? = some B → bdy sy pa nl k B (sg (2 * k))) (hr : ∀ k x, rt.find? (fun x => x.1 == k) = some x → rut sy pa nl x.2 (sg (2 * k + 1))) (hZ : ∀ p, p < pa.length → (pz.getD p (0, 0)).1 < 100000) (h80 : ∀ s, s < sy.length → h.1 80 0 (s + 2) = nI (szT (srO sy s) (szO sy s))) :
    ∀ m k h1, k + m = 6 → tA h h1 → TBm sy pz pa h1 rg bs rt n k → mP (mj_R mg (D + 1) mq_275 (155, [(2, vI (nI k)), (1, vI (bI (b0 && ftA (ft2 sy pz rt) k))), (0, vR 15 0)], [], h1)) (fun v h' => v = some (vI (bI (b0 && ftA (ft2 sy pz rt) 6))) ∧ tA h h' ∧ TBm sy pz pa h' rg bs rt n 6) := sorry
/-- THE TWIN MEASURES ALL -/
theorem t_all {D n : Nat} {lk : List (Nat × Nat)} {vis : List Nat} {L : List PL} {t : Nat → Nat} (hD : 120 ≤ D) (G : TG t n h (pa, bs, lk, rt, sy, vis, L) nn) (W : wfG (pa, bs, lk, rt, sy, vis, L)) (hnn : nn ≤ 3400) (hZ : pzT sy pa bs pz) :
    mP (mj_R mg (D + 1) mq_275 (0, [(0, vR 15 0)], [], h)) (fun v h' => v = some (vI (bI (fts sy pz bs.length rt))) ∧ tA h h' ∧ ∃ rg, rgs nn bs.length rt rg ∧ TBm sy pz pa h' rg bs rt bs.length 6) := sorry
end

