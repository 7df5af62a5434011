/-! the component measures all -/
theorem min_fit (X : Nat) : min X 1048576 ≤ 4000 ↔ X ≤ 4000 := sorry
theorem PBm.up1 {sy : List Sym} {pz : List (Nat × Nat)} {h : mj_H} {rg : Nat → Nat × Nat} {bs : List Tm} {rt : List (Nat × Tm)} {n r : Nat} (a : PBm sy pz h rg bs rt n r) (hc : ∀ B x, bs[n]? = some B → h.1 38 0 n = nI x → cM sy pz h B 0 (nI x)) (ht : h.1 41 0 n = nI (pz.getD n (0, 0)).1 ∧ ∃ v, h.1 42 0 n = nI v ∧ cP v (pz.getD n (0, 0)).2 ∧ v ≤ 1048576) : PBm sy pz h rg bs rt (n + 1) r := sorry
theorem PBm.up2 {sy : List Sym} {pz : List (Nat × Nat)} {h : mj_H} {rg : Nat → Nat × Nat} {bs : List Tm} {rt : List (Nat × Tm)} {n r : Nat} (a : PBm sy pz h rg bs rt n r) (hc : ∀ x j, rt.find? (fun x => x.1 == r) = some x → h.1 46 0 r = nI j → cM sy pz h x.2 0 (nI j)) : PBm sy pz h rg bs rt n (r + 1) := sorry
theorem ftA_s (f : Nat → Bool) (k : Nat) : ftA f (k + 1) = (ftA f k && f k) := sorry
section
variable {sy : List Sym} {pa : List (List Nat)} {bs : List Tm} {rt : List (Nat × Tm)} {pz : List (Nat × Nat)} {rg : Nat → Nat × Nat} {np : Nat} {h : mj_H}
theorem c_all1 {D : Nat} {Q : Option mj_V → mj_H → Prop} (hD : 400 ≤ D) (a0 : rgs np bs.length rt rg) (hnp : np ≤ 3100) (hbl : bs.length = pa.length) (hp : pa.length ≤ 24) (hs : sy.length ≤ 200)
    (hW : ∀ k B, bs[k]? = some B → ∃ l vis slo shi, wfQ sy (pa.take k) B 0 l vis slo shi ∧ l ≤ 17 ∧ shi ≤ sy.length) (hF : pzT sy pa bs pz) (h17 : h.1 4 0 17 = nI bs.length) (h39 : ∀ k, k < pa.length → h.1 39 0 k = nI (pa.getD k []).length ∧ (pa.getD k []).length ≤ 6) (h34 : ∀ s, s < sy.length → h.1 34 0 s = nI (szO sy s))
    (K : ∀ h2, gA h h2 → PBm sy pz h2 rg bs rt bs.length 0 → mP (mj_R mg (D + 1) mq_109 (137, [(2, vI 0), (1, vI (bI (ftA (ft1 pz) bs.length))), (0, vR 7 0)], [], h2)) Q) :
    ∀ m k h1, k + m = bs.length → gA h h1 → PBm sy pz h1 rg bs rt k 0 → mP (mj_R mg (D + 1) mq_109 (4, [(2, vI (nI k)), (1, vI (bI (ftA (ft1 pz) k))), (0, vR 7 0)], [], h1)) Q := sorry
theorem c_all2 {D n : Nat} {b0 : Bool} (hD : 400 ≤ D) (a0 : rgs np bs.length rt rg) (hnp : np ≤ 3100) (hbl : bs.length = pa.length) (hp : pa.length ≤ 24) (hs : sy.length ≤ 200) (hn : n = bs.length)
    (hW : ∀ k x, rt.find? (fun x => x.1 == k) = some x → ∃ l vis slo shi, wfQ sy pa x.2 0 l vis slo shi ∧ l ≤ 17 ∧ shi ≤ sy.length) (hZ : ∀ p, p < pa.length → (pz.getD p (0, 0)).1 < 100000) (h34 : ∀ s, s < sy.length → h.1 34 0 s = nI (szO sy s)) :
    ∀ m k h1, k + m = 6 → gA h h1 → PBm sy pz h1 rg bs rt n k → mP (mj_R mg (D + 1) mq_109 (137, [(2, vI (nI k)), (1, vI (bI (b0 && ftA (ft2 sy pz rt) k))), (0, vR 7 0)], [], h1)) (fun v h' => v = some (vI (bI (b0 && ftA (ft2 sy pz rt) 6))) ∧ gA h h' ∧ PBm sy pz h' rg bs rt n 6) := sorry
/-- THE COMPONENT MEASURES ALL -/
theorem c_all {D : Nat} {lk : List (Nat × Nat)} {vis : List Nat} {L : List PL} {t : Nat → Nat} {n : Nat} (hD : 400 ≤ D) (G : PGc t n h (pa, bs, lk, rt, sy, vis, L) np) (W : wfG (pa, bs, lk, rt, sy, vis, L)) (hnp : np ≤ 3100) (hZ : pzT sy pa bs pz) :
    mP (mj_R mg (D + 1) mq_109 (0, [(0, vR 7 0)], [], h)) (fun v h' => v = some (vI (bI (fts sy pz bs.length rt))) ∧ gA h h' ∧ ∃ rg, rgs np bs.length rt rg ∧ PBm sy pz h' rg bs rt bs.length 6) := sorry
end

