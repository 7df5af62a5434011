/-! the twin's uses: constants, references, expressions -/
def tUK (sy : List Sym) (pa : List (List Nat)) (pb : Nat → Nat) (lk : List (Nat × Nat)) (w : Option Nat) (h : mj_H) : Prop :=
  sy.length ≤ 200 ∧ (∀ s, inSy sy s → h.1 79 0 (tw s) = nI (kdS sy s) ∧ (s < 200 → h.1 84 0 (tw s) = nI (nuT (srO sy s) (szO sy s))) ∧ srO sy s ≤ 11) ∧ (∀ p, p < pa.length → ∀ q, q ∈ pa.getD p [] → h.1 83 0 (tw q) = nI (pb q) ∧ pb q < 16 ∧ inSy sy q) ∧
  lk.length ≤ 12 ∧ (∀ l, l < lk.length → h.1 106 0 l = nI (lk.getD l (0, 0)).1 ∧ h.1 107 0 l = nI (lk.getD l (0, 0)).2 ∧ (lk.getD l (0, 0)).1 ≤ 5 ∧ (lk.getD l (0, 0)).2 ≤ 5) ∧ h.1 15 0 68 = wI w ∧ ∀ p, w = some p → p ≤ 5
def gTv (a b : Nat) (h h' : mj_H) : Prop := (∀ g i j, ¬ ((g = 15 ∧ (j = 61 ∨ j = 62 ∨ j = 67)) ∨ (111 ≤ g ∧ g ≤ 115) ∨ (g = 85 ∧ a + 2 ≤ j ∧ j < b + 2)) → h'.1 g i j = h.1 g i j) ∧ h'.2 = h.2
theorem gTv.rf (a b : Nat) (h : mj_H) : gTv a b h h := sorry
theorem gTv.tr {a b : Nat} {h h1 h2 : mj_H} (x : gTv a b h h1) (y : gTv a b h1 h2) : gTv a b h h2 := sorry
theorem gTv.le {a b a' b' : Nat} {h h' : mj_H} (x : gTv a b h h') (ha : a' ≤ a) (hb : b ≤ b') : gTv a' b' h h' := sorry
theorem gTu.v {a b : Nat} {h h' : mj_H} (x : gTu h h') : gTv a b h h' := sorry
theorem gTv.k {a b lo hi : Nat} {h h' : mj_H} (f : gTv a b h h') : tK lo hi h h' := sorry
theorem tUK.mv {sy : List Sym} {pa : List (List Nat)} {pb : Nat → Nat} {lk : List (Nat × Nat)} {w : Option Nat} {h h' : mj_H} {a b : Nat} (x : tUK sy pa pb lk w h) (f : gTv a b h h') : tUK sy pa pb lk w h' := sorry
def tcK (sy : List Sym) (vis : List Nat) (r : Nat → Int32) (h : mj_H) : Prop := ∀ s ∈ vis, srO sy s = 11 → h.1 85 0 (tw s) = r s
theorem tcK.mvU {sy : List Sym} {vis : List Nat} {r : Nat → Int32} {h h' : mj_H} (a : tcK sy vis r h) (f : gTu h h') : tcK sy vis r h' := sorry
theorem kdT_f : ∀ k : Fin 12, (kdT k.1 = 10 ↔ k.1 = 11) ∧ (kdT k.1 == 2 || kdT k.1 == 7) = sArr k.1 ∧ (kdT k.1 = 4 ↔ k.1 = 9) ∧ (kdT k.1 = 5 ↔ k.1 = 3) ∧ (kdT k.1 = 8 ↔ k.1 = 8) ∧ (kdT k.1 = 11 ↔ k.1 = 1) ∧ kdT k.1 ≠ 12 ∧ kdT k.1 ≠ 13 ∧ kdT k.1 < 20 := sorry
theorem kd_f {sy : List Sym} {s : Nat} (h : srO sy s ≤ 11) : (kdS sy s = 10 ↔ srO sy s = 11) ∧ (kdS sy s == 2 || kdS sy s == 7) = sArr (srO sy s) ∧ (kdS sy s = 4 ↔ srO sy s = 9) ∧ (kdS sy s = 5 ↔ srO sy s = 3) ∧ (kdS sy s = 8 ↔ srO sy s = 8) ∧ kdS sy s < 20 := sorry
theorem kd_at {sy : List Sym} {pa : List (List Nat)} {pb : Nat → Nat} {lk : List (Nat × Nat)} {w : Option Nat} {h : mj_H} {s : Nat} (a : tUK sy pa pb lk w h) (hs : inSy sy s) : mj_in (nI (tw s)) 260 ∧ (nI (tw s)).toNatClampNeg = tw s ∧ h.1 79 0 (tw s) = nI (kdS sy s) ∧ srO sy s ≤ 11 ∧ s < 202 ∧ tw s < 260 := sorry
theorem nd_at {u lo hi k w0 : Nat} {h : mj_H} (hh : hi ≤ 7000) (b : tM u lo hi h k w0) : mj_in (nI k) 7000 ∧ (nI k).toNatClampNeg = k := sorry
def brE : Tm → Tm
  | .old e => brE e
  | e => e
section
variable {sy : List Sym} {pa : List (List Nat)} {pb : Nat → Nat} {lk : List (Nat × Nat)} {w : Option Nat} {vis : List Nat} {r : Nat → Int32} {u : Nat} {pre : List Ev}
theorem brE_f : ∀ (e : Tm), wfE sy vis e → wfE sy vis (brE e) ∧ fixE sy (brE e) = fixE sy e ∧ cstE r (brE e) = cstE r e ∧ plC sy (brE e) = plC sy e ∧ nuE (brE e) = nuE e ∧ eKt (brE e) = eKt e ∧ ∀ x, brE e ≠ .old x := sorry
theorem t_br1 {d : Nat} {x1 : Int32} {h : mj_H} : ∀ (e : Tm) (lo hi k : Nat), wfE sy vis e → tE u lo hi h e k → hi ≤ 7000 → ∃ j, mj_R mg d mq_268 (2, [(2, vI (nI k)), (0, vR 15 0), (1, vI x1)], [], h) = some (.inl (some (vI (nI j)), h)) ∧ tE u lo hi h (brE e) j := sorry
theorem t_br {lo hi k d : Nat} {h : mj_H} {e : Tm} (wf : wfE sy vis e) (a : tE u lo hi h e k) (hh : hi ≤ 7000) : ∃ j, mj_R mg d mq_268 (0, [(0, vR 15 0), (1, vI (nI k))], [], h) = some (.inl (some (vI (nI j)), h)) ∧ tE u lo hi h (brE e) j := sorry
theorem t_plC {lo hi k D : Nat} {h : mj_H} {e : Tm} (hh : hi ≤ 7000) (hK : tUK sy pa pb lk w h) (hv : vOK sy lk vis) (wf : wfE sy vis e) (hb : ∀ x, e ≠ .old x) (a : tE u lo hi h e k) : mj_R mg D mq_277 (0, [(0, vR 15 0), (1, vI (nI k))], [], h) = some (.inl (some (vI (bI (plC sy e))), h)) := sorry
theorem opT_pm : ∀ {o : Nat}, (∃ k, isO k = true ∧ opC k = o) → (nI (opT o) = 43 ↔ o = 43) ∧ (nI (opT o) = 45 ↔ o = 45) := sorry
end

