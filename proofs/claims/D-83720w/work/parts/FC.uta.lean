/-! the twin checks all uses -/
def gTj (h h' : mj_H) : Prop := (∀ g i j, ¬ ((g = 15 ∧ (j = 61 ∨ j = 62 ∨ j = 67 ∨ j = 68)) ∨ (111 ≤ g ∧ g ≤ 115) ∨ g = 83 ∨ g = 85) → h'.1 g i j = h.1 g i j) ∧ h'.2 = h.2
theorem gTj.rf (h : mj_H) : gTj h h := sorry
theorem gTj.tr {h h1 h2 : mj_H} (a : gTj h h1) (b : gTj h1 h2) : gTj h h2 := sorry
theorem gTv.j {a b : Nat} {h h' : mj_H} (f : gTv a b h h') : gTj h h' := sorry
theorem gTj.k {lo hi : Nat} {h h' : mj_H} (f : gTj h h') : tK lo hi h h' := sorry
section
variable {sy : List Sym} {pa : List (List Nat)} {bs : List Tm} {lk : List (Nat × Nat)} {rt : List (Nat × Tm)} {kp : Nat → Bool} {fl : Bool}
theorem take_gD {k p : Nat} (h : p < k) : (pa.take k).getD p [] = pa.getD p [] := sorry
/-- parameters of channels are sent to and taken from, no more -/
theorem pbF_3 {nl : Nat} {sg : Nat → Nat × Nat} (hbl : bs.length = pa.length) (hb : ∀ k B, bs[k]? = some B → bdy sy pa nl k B (sg (2 * k))) : ∀ k, k ≤ bs.length → (∀ p, p < k → ∀ q, q ∈ pa.getD p [] → prm (srO sy q)) ∧ ∀ p, p < k → ∀ q, q ∈ pa.getD p [] → srO sy q = 8 → pbF kp fl sy pa bs k q &&& 3 = 0 := sorry
/-- parameters of another PROC are not used in a body -/
theorem par_no {nl : Nat} {sg : Nat → Nat × Nat} {pb : Nat → Nat} (hbl : bs.length = pa.length) (hr : rgs sy.length bs.length rt sg) (hb : ∀ k B, bs[k]? = some B → bdy sy pa nl k B (sg (2 * k))) {k p q : Nat} {B : Tm} (hB : bs[k]? = some B) (hp : p < bs.length) (hne : p ≠ k) (hq : q ∈ pa.getD p []) (hP : ∀ p, p < k → ∀ q, q ∈ pa.getD p [] → prm (srO sy q)) (h3 : ∀ p, p < k → ∀ q, q ∈ pa.getD p [] → srO sy q = 8 → pb q &&& 3 = 0) : orN (evP kp fl sy pb (pa.take k) B 0 r0) q = 0 := sorry
def utG (nn : Nat) (sy : List Sym) (pa : List (List Nat)) (bs : List Tm) (lk : List (Nat × Nat)) (rt : List (Nat × Tm)) (h : mj_H) : Prop :=
  sy.length ≤ 200 ∧ (∀ s, inSy sy s → h.1 79 0 (tw s) = nI (kdS sy s) ∧ (s < 200 → h.1 84 0 (tw s) = nI (nuT (srO sy s) (szO sy s))) ∧ srO sy s ≤ 11) ∧ TPB h nn pa bs lk rt
theorem utG.mv {nn : Nat} {h h' : mj_H} (a : utG nn sy pa bs lk rt h) (f : gTj h h') : utG nn sy pa bs lk rt h' := sorry
def ubT (sy : List Sym) (pa : List (List Nat)) (bs : List Tm) (k : Nat) (h : mj_H) : Prop := (∀ p q, p < k → q ∈ pa.getD p [] → h.1 83 0 (tw q) = nI (pbF kpT false sy pa bs k q) ∧ pbF kpT false sy pa bs k q < 16) ∧ ∀ p q, k ≤ p → p < bs.length → q ∈ pa.getD p [] → h.1 83 0 (tw q) = 0
theorem tUK_of {nn k : Nat} {w : Option Nat} {h : mj_H} (a : utG nn sy pa bs lk rt h) (b : ∀ p q, p < k → q ∈ pa.getD p [] → h.1 83 0 (tw q) = nI (pbF kpT false sy pa bs k q) ∧ pbF kpT false sy pa bs k q < 16) (hin : ∀ p, p < bs.length → ∀ q, q ∈ pa.getD p [] → inSy sy q) (hbl : bs.length = pa.length) (hw : h.1 15 0 68 = wI w) (hw5 : ∀ p, w = some p → p ≤ 5) : tUK sy (pa.take k) (pbF kpT false sy pa bs k) lk w h := sorry
/-- the rows' uses are kept with their names -/
theorem t_keep {D k : Nat} {Q : Option mj_V → mj_H → Prop} (hk : k < 25) : ∀ (T S : List Ev) (h : mj_H), TR h (S ++ T) →
    (∀ h1, (∀ g i j, g ≠ 83 → h1.1 g i j = h.1 g i j) → h1.2 = h.2 → (∀ s a, s < 202 → a < 16 → h.1 83 0 (tw s) = nI a → h1.1 83 0 (tw s) = nI (a ||| orN T s)) → mP (mj_xv (mj_R mg D mq_292 (0, [(0, vR 15 0), (1, vI (h1.1 103 0 k))], [], mj_sI h1 15 0 68 (-1))) (fun h2 => mj_R mg (D + 1) mq_294 (7, [(1, vI (nI k + 1)), (2, vI (nI (S ++ T).length)), (0, vR 15 0)], [], h2))) Q) →
    mP (mj_R mg (D + 1) mq_294 (37, [(2, vI (nI S.length)), (1, vI (nI k)), (0, vR 15 0)], [], h)) Q := sorry
/-- the line that is told, so far -/
def lnU (h : mj_H) (L : List Nat) : Prop := ∃ O, (∀ u, u ∈ O ↔ u ∈ L) ∧ h.1 15 0 67 = mnL (-1) O
theorem lnU.tr {h h1 : mj_H} {A B : List Nat} (a : lnU h A) (b : lnT h h1 B) : lnU h1 (A ++ B) := sorry
theorem lnU.eq {h h1 : mj_H} {A : List Nat} (a : lnU h A) (e : h1.1 15 0 67 = h.1 15 0 67) : lnU h1 A := sorry
theorem t_cu1 {nn D : Nat} {h : mj_H} (hD : 200 ≤ D) (hnn : nn ≤ 3400) (hbl : bs.length = pa.length) (hp24 : pa.length ≤ 24) {sg : Nat → Nat × Nat} (hr : rgs sy.length bs.length rt sg) (hb : ∀ k B, bs[k]? = some B → bdy sy pa lk.length k B (sg (2 * k))) (hE : ∀ k B, bs[k]? = some B → nk (EVt sy (pa.take k) (pbF kpT false sy pa bs k) B 0 r0) ≤ 60000) (hZ : ∀ k B, bs[k]? = some B → zP sy (pbF kpT false sy pa bs k) (pa.take k) B 0 r0 ≤ 60000) (hG : utG nn sy pa bs lk rt h) {Q : Option mj_V → mj_H → Prop}
    (K : ∀ h2, gTj h h2 → ubT sy pa bs bs.length h2 → lnU h2 (offB kpT false true sy pa bs lk bs.length) → mP (mj_R mg (D + 1) mq_294 (103, [(1, vI 0), (0, vR 15 0)], [], h2)) Q) :
    ∀ (m k : Nat) (h1 : mj_H), k + m = bs.length → gTj h h1 → ubT sy pa bs k h1 → lnU h1 (offB kpT false true sy pa bs lk k) → (∃ w, h1.1 15 0 68 = wI w ∧ ∀ p, w = some p → p ≤ 5) → mP (mj_R mg (D + 1) mq_294 (7, [(1, vI (nI k)), (0, vR 15 0)], [], h1)) Q := sorry
theorem t_cu2 {nn D : Nat} {h : mj_H} (hD : 200 ≤ D) (hnn : nn ≤ 3400) (hp24 : pa.length ≤ 24) (hbl : bs.length = pa.length) {sg : Nat → Nat × Nat} (hr : rgs sy.length bs.length rt sg) (hbb : ∀ k B, bs[k]? = some B → bdy sy pa lk.length k B (sg (2 * k))) (hb : ∀ k x, rt.find? (fun x => x.1 == k) = some x → rut sy pa lk.length x.2 (sg (2 * k + 1))) (hZ : ∀ k x, rt.find? (fun x => x.1 == k) = some x → zP sy (pbF kpT false sy pa bs bs.length) pa x.2 0 r0 ≤ 60000) (hG : utG nn sy pa bs lk rt h) (hU : ubT sy pa bs bs.length h) :
    ∀ (m k : Nat) (h1 : mj_H) (L : List Nat), k + m = 6 → gTj h h1 → (∀ s, h1.1 83 0 (tw s) = h.1 83 0 (tw s)) → lnU h1 (L ++ offR kpT false true sy pa bs lk rt k) →
      mP (mj_R mg (D + 1) mq_294 (103, [(1, vI (nI k)), (0, vR 15 0)], [], h1)) (fun v h' => gTj h h' ∧ lnU h' (L ++ offR kpT false true sy pa bs lk rt 6) ∧ v = some (vI (bI (decide (h'.1 15 0 67 = -1)))) ∧ ((∃ w, h1.1 15 0 68 = wI w ∧ ∀ p, w = some p → p ≤ 5) ∨ k < 6 → ∃ w, h'.1 15 0 68 = wI w ∧ ∀ p, w = some p → p ≤ 5)) := sorry
/-- THE TWIN CHECKS ALL USES -/
theorem t_uses {nn D : Nat} {h : mj_H} {vis : List Nat} {L : List PL} (hD : 200 ≤ D) (hnn : nn ≤ 3400) (W : wfG (pa, bs, lk, rt, sy, vis, L)) (hG : utG nn sy pa bs lk rt h) (h83 : ∀ s, s < sy.length → h.1 83 0 (tw s) = 0) (hw : ∃ w, h.1 15 0 68 = wI w ∧ ∀ p, w = some p → p ≤ 5) (hE : ∀ k B, bs[k]? = some B → nk (EVt sy (pa.take k) (pbF kpT false sy pa bs k) B 0 r0) ≤ 60000) (hZ1 : ∀ k B, bs[k]? = some B → zP sy (pbF kpT false sy pa bs k) (pa.take k) B 0 r0 ≤ 60000) (hZ2 : ∀ k x, rt.find? (fun x => x.1 == k) = some x → zP sy (pbF kpT false sy pa bs bs.length) pa x.2 0 r0 ≤ 60000) :
    mP (mj_R mg (D + 1) mq_294 (0, [(0, vR 15 0)], [], h)) (fun v h' => gTj h h' ∧ ∃ O, (∀ u, u ∈ O ↔ u ∈ offB kpT false true sy pa bs lk bs.length ++ offR kpT false true sy pa bs lk rt 6) ∧ h'.1 15 0 67 = mnL (-1) O ∧ v = some (vI (bI (decide (mnL (-1) O = -1)))) ∧ ∃ w, h'.1 15 0 68 = wI w ∧ ∀ p, w = some p → p ≤ 5) := sorry
end

