/-! uses: the component looks at all -/
section
variable {sy : List Sym} {pa : List (List Nat)} {bs : List Tm} {lk : List (Nat × Nat)} {rt : List (Nat × Tm)}
theorem u_params {D k : Nat} {S : List Ev} (hk : k < 24) (hD : 10 ≤ D) {Q : Option mj_V → mj_H → Prop} : ∀ (m j : Nat) (h : mj_H), j + m = (pa.getD k []).length → (pa.getD k []).length ≤ 6 → h.1 39 0 k = nI (pa.getD k []).length → (∀ i q, (pa.getD k [])[i]? = some q → h.1 40 0 (6 * k + i) = nI q ∧ q < 202) → UR h S → (∀ i q, i < j → (pa.getD k [])[i]? = some q → h.1 43 0 (6 * k + i) = nI (orN S q)) →
    (∀ h1, (∀ g i t, ¬ (g = 43 ∧ 6 * k ≤ t ∧ t < 6 * k + 6) → h1.1 g i t = h.1 g i t) → h1.2 = h.2 → (∀ i q, (pa.getD k [])[i]? = some q → h1.1 43 0 (6 * k + i) = nI (orN S q)) → mP (mj_R mg (D + 1) mq_126 (7, [(1, vI (nI (k + 1))), (0, vR 8 0)], [], h1)) Q) →
    mP (mj_R mg (D + 1) mq_126 (44, [(2, vI (nI j)), (1, vI (nI k)), (0, vR 8 0)], [], h)) Q := sorry
theorem par_dj {nl : Nat} {sg : Nat → Nat × Nat} (hr : rgs sy.length bs.length rt sg) (hb : ∀ k B, bs[k]? = some B → bdy sy pa nl k B (sg (2 * k))) {p k q : Nat} (hp : p < bs.length) (hk : k < bs.length) (hne : p ≠ k) (h1 : q ∈ pa.getD p []) (h2 : q ∈ pa.getD k []) : False := sorry
/-- the line that is told, so far -/
def lnO (h : mj_H) (L : List Nat) : Prop := ∃ O, (∀ u, u ∈ O ↔ u ∈ L) ∧ h.1 8 0 7 = mnL (-1) O
theorem lnO.tr {h h1 : mj_H} {A B : List Nat} (a : lnO h A) (b : lnR h h1 B) : lnO h1 (A ++ B) := sorry
theorem lnO.eq {h h1 : mj_H} {A : List Nat} (a : lnO h A) (e : h1.1 8 0 7 = h.1 8 0 7) : lnO h1 A := sorry
theorem getD_of {k : Nat} {B : Tm} (h : bs[k]? = some B) : bs.getD k .null = B := sorry
theorem u_look1 {np D : Nat} {h : mj_H} (hD : 400 ≤ D) (hnp : np ≤ 3100) (hbl : bs.length = pa.length) (hp24 : pa.length ≤ 24) (hs : sy.length ≤ 200) {sg : Nat → Nat × Nat} (hr : rgs sy.length bs.length rt sg) (hb : ∀ k B, bs[k]? = some B → bdy sy pa lk.length k B (sg (2 * k))) (hY : ∀ k B, bs[k]? = some B → YPc sy (pa.take k) (pbF (kpC sy) true sy pa bs k) B 0 r0 ≤ 20000) (hG : ugC np sy pa bs lk rt h) {Q : Option mj_V → mj_H → Prop}
    (K : ∀ h2, gJ h h2 → ubC sy pa bs bs.length h2 → lnO h2 (offB (kpC sy) true false sy pa bs lk bs.length) → mP (mj_R mg (D + 1) mq_126 (144, [(1, vI 0), (0, vR 8 0)], [], h2)) Q) :
    ∀ (m k : Nat) (h1 : mj_H), k + m = bs.length → gJ h h1 → ubC sy pa bs k h1 → lnO h1 (offB (kpC sy) true false sy pa bs lk k) → mP (mj_R mg (D + 1) mq_126 (7, [(1, vI (nI k)), (0, vR 8 0)], [], h1)) Q := sorry
theorem u_look2 {np D : Nat} {h : mj_H} (hD : 400 ≤ D) (hnp : np ≤ 3100) (hp24 : pa.length ≤ 24) (hbl : bs.length = pa.length) (hs : sy.length ≤ 200) {sg : Nat → Nat × Nat} (hr : rgs sy.length bs.length rt sg) (hb : ∀ k x, rt.find? (fun x => x.1 == k) = some x → rut sy pa lk.length x.2 (sg (2 * k + 1))) (hY : ∀ k x, rt.find? (fun x => x.1 == k) = some x → YPc sy pa (pbF (kpC sy) true sy pa bs bs.length) x.2 0 r0 ≤ 20000) (hG : ugC np sy pa bs lk rt h) (hU : ubC sy pa bs bs.length h) :
    ∀ (m k : Nat) (h1 : mj_H) (L : List Nat), k + m = 6 → (∀ g i j, ¬ ((g = 8 ∧ (j = 5 ∨ j = 7 ∨ j = 8)) ∨ (49 ≤ g ∧ g ≤ 57)) → h1.1 g i j = h.1 g i j) → h1.2 = h.2 → lnO h1 (L ++ offR (kpC sy) true false sy pa bs lk rt k) →
      mP (mj_R mg (D + 1) mq_126 (144, [(1, vI (nI k)), (0, vR 8 0)], [], h1)) (fun v h' => gJ h h' ∧ ubC sy pa bs bs.length h' ∧ lnO h' (L ++ offR (kpC sy) true false sy pa bs lk rt 6) ∧ v = some (vI (h'.1 8 0 7))) := sorry
/-- THE COMPONENT LOOKS AT ALL -/
theorem u_look {np D : Nat} {h : mj_H} {vis : List Nat} {L : List PL} (hD : 400 ≤ D) (hnp : np ≤ 3100) (W : wfG (pa, bs, lk, rt, sy, vis, L)) (hG : ugC np sy pa bs lk rt h) (hY1 : ∀ k B, bs[k]? = some B → YPc sy (pa.take k) (pbF (kpC sy) true sy pa bs k) B 0 r0 ≤ 20000) (hY2 : ∀ k x, rt.find? (fun x => x.1 == k) = some x → YPc sy pa (pbF (kpC sy) true sy pa bs bs.length) x.2 0 r0 ≤ 20000) :
    mP (mj_R mg (D + 1) mq_126 (0, [(0, vR 8 0)], [], h)) (fun v h' => gJ h h' ∧ ubC sy pa bs bs.length h' ∧ ∃ O, (∀ u, u ∈ O ↔ u ∈ offB (kpC sy) true false sy pa bs lk bs.length ++ offR (kpC sy) true false sy pa bs lk rt 6) ∧ v = some (vI (mnL (-1) O))) := sorry
end

