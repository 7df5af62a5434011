/-! how many words: what both measure -/
def smp : Tm → Bool
  | .int _ => true
  | .arg _ => true
  | .old e => smp e
  | _ => false
def exw : Tm → Nat
  | .elem (.arg _) e => exw e
  | .length e => exw e
  | .sum e => exw e
  | .old e => exw e
  | .add (.index o) (.sub x y) => max (exw y) (exw x + if o = 65 ∨ o = 79 ∨ smp y = true then 0 else 1)
  | _ => 0
theorem exw_le : ∀ e, exw e ≤ eH e := sorry
def wsz (sy : List Sym) (s : Nat) : Nat := max 1 (szO sy s)
def dsz (sy : List Sym) (s : Nat) : Nat → Nat
  | 0 => 0
  | m + 1 => dsz sy s m + wsz sy (s + m)
def mxA : Tm → Nat
  | .elem a r => max (exw a) (mxA r)
  | _ => 0
/-- extent and depth; modes: 0 a process, 1 a row in SEQ, 2 choices, 3 guards, 4 branches (their blocks) -/
def mz (sy : List Sym) (pz : List (Nat × Nat)) : Tm → Nat → Nat × Nat
  | .div (.index _) (.rem (.elem (.index s) (.index c)) p), 0 => (dsz sy s c + (mz sy pz p 0).1, (mz sy pz p 0).2)
  | .div (.index _) (.add v e), 0 => (max (exw v) (exw e), 0)
  | .div (.index _) (.sub v e), 0 => (max (exw v) (exw e), 0)
  | .div (.index _) (.mul v e), 0 => (max (exw v) (exw e), 0)
  | .div (.index _) (.elem (.index p) as), 0 => (mxA as, 7 + (pz.getD p (0, 0)).1 + (pz.getD p (0, 0)).2)
  | .div (.index _) (.length ps), 0 => mz sy pz ps 1
  | .div (.index _) (.rem (.arg _) (.elem (.elem e1 e2) p)), 0 => (2 + max (max (exw e1) (exw e2)) (mz sy pz p 0).1, (mz sy pz p 0).2)
  | .div (.index _) (.sum (.elem (.index _) ps)), 0 => (3, 3 + (mz sy pz ps 4).2)
  | .div (.index _) (.old (.elem (.index _) ps)), 0 => (3, 3 + (mz sy pz ps 4).2)
  | .div (.index _) (.rem (.index _) (.elem (.elem (.index _) (.index m)) p)), 0 => (3, 3 + m * (1 + (mz sy pz p 0).1 + (mz sy pz p 0).2 + 3))
  | .div (.index _) (.rem .null gs), 0 => mz sy pz gs 2
  | .div (.index _) (.div e p), 0 => (max (exw e) (mz sy pz p 0).1, (mz sy pz p 0).2)
  | .div (.index _) (.rem .result gs), 0 => ((mz sy pz gs 3).1 + 2 * tmN gs, (mz sy pz gs 3).2)
  | .elem p ps, 1 => (max (mz sy pz p 0).1 (mz sy pz ps 1).1, max (mz sy pz p 0).2 (mz sy pz ps 1).2)
  | .elem (.elem e p) gs, 2 => (max (max (mz sy pz p 0).1 (exw e)) (mz sy pz gs 2).1, max (mz sy pz p 0).2 (mz sy pz gs 2).2)
  | .elem (.div (.index _) (.elem e (.elem c (.elem v p)))) gs, 3 => (max (max (max (mz sy pz p 0).1 (exw e)) (max (exw c) (exw v))) (mz sy pz gs 3).1, max (mz sy pz p 0).2 (mz sy pz gs 3).2)
  | .elem p ps, 4 => (0, (1 + (mz sy pz p 0).1 + (mz sy pz p 0).2 + 3) + (mz sy pz ps 4).2)
  | _, _ => (0, 0)
theorem wfV_h {sy : List Sym} {vis : List Nat} {e : Tm} (h : wfV sy vis e) : eH e ≤ 21 := sorry
theorem wfC_h {sy : List Sym} {vis : List Nat} {e : Tm} (h : wfC sy vis e) : eH e ≤ 21 := sorry
theorem wfA_h {sy : List Sym} {vis : List Nat} {qs : List Nat} {e : Tm} : wfA sy vis qs e → mxA e ≤ 21 := sorry
theorem wfQ.le {sy : List Sym} {pa : List (List Nat)} : ∀ (A : Tm) (m l : Nat) (vis : List Nat) (lo hi : Nat), wfQ sy pa A m l vis lo hi → lo ≤ hi := sorry
theorem dsz_le {sy : List Sym} {s : Nat} : ∀ c, (∀ k, k < c → dcl sy (s + k)) → dsz sy s c ≤ 64 * c := sorry
theorem mz_le {sy : List Sym} {pz : List (Nat × Nat)} {pa : List (List Nat)} : ∀ (A : Tm) (m l : Nat) (vis : List Nat) (lo hi : Nat), wfQ sy pa A m l vis lo hi → (mz sy pz A m).1 + 100 * lo ≤ 100 * hi + 20 * l + 30 := sorry
/-! depths that are cut off -/
def cP (x d : Nat) : Prop := (d < 1000000 → x = d) ∧ (1000000 ≤ d → 1000000 ≤ x)
theorem cP.rf (d : Nat) : cP d d := sorry
theorem cP.add {x d y e : Nat} (a : cP x d) (b : cP y e) : cP (x + y) (d + e) := sorry
theorem cP.mx {x d y e : Nat} (a : cP x d) (b : cP y e) : cP (max x y) (max d e) := sorry
theorem cP.mul {x d : Nat} (c : Nat) (hc : 1 ≤ c) (a : cP x d) : cP (c * x) (c * d) := sorry
theorem cP.min {x d C : Nat} (a : cP x d) (hC : 1000000 ≤ C) : cP (min x C) d := sorry
