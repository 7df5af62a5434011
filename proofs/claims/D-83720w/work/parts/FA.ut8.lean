/-! the twin's uses: check -/
def lnT (h h' : mj_H) (L : List Nat) : Prop := ∃ O, (∀ u, u ∈ O ↔ u ∈ L) ∧ h'.1 15 0 67 = mnL (h.1 15 0 67) O
theorem lnT.of {h h' : mj_H} {L : List Nat} (e : h'.1 15 0 67 = mnL (h.1 15 0 67) L) : lnT h h' L := sorry
theorem lnT.nil {h h' : mj_H} (e : h'.1 15 0 67 = h.1 15 0 67) : lnT h h' [] := sorry
theorem lnT.tr {h h1 h2 : mj_H} {A B : List Nat} (a : lnT h h1 A) (b : lnT h1 h2 B) : lnT h h2 (A ++ B) := sorry
theorem lnT.cg {h h' : mj_H} {A B : List Nat} (a : lnT h h' A) (e : ∀ u, u ∈ A ↔ u ∈ B) : lnT h h' B := sorry
section
variable (sy : List Sym) (pb : Nat → Nat) (pa : List (List Nat))
def zP : Tm → Nat → (Nat → Int32) → Nat
  | .div (.index _) (.rem (.elem (.index _) (.index _)) p), 0, r => zP p 0 r
  | .div (.index _) (.length ps), 0, r => zP ps 1 r
  | .div (.index _) (.rem (.arg _) (.elem (.elem _ _) p)), 0, r => zP p 0 r
  | .div (.index _) (.sum (.elem (.index _) ps)), 0, r => max (sNk (brs kpT false sy pb pa ps r)) (zP ps 1 r)
  | .div (.index _) (.old (.elem (.index _) ps)), 0, r => max (sNk (brs kpT false sy pb pa ps r)) (zP ps 1 r)
  | .div (.index _) (.rem (.index s) (.elem (.elem (.index b) (.index m)) p)), 0, r => max (sNk (catN (fun k => [evP kpT false sy pb pa p 0 (upE r s (nI (b + k)))]) m)) (mxN (fun k => zP p 0 (upE r s (nI (b + k)))) m)
  | .div (.index _) (.rem .null gs), 0, r => zP gs 2 r
  | .div (.index _) (.div _ p), 0, r => zP p 0 r
  | .div (.index _) (.rem .result gs), 0, r => zP gs 3 r
  | .elem p ps, 1, r => max (zP p 0 r) (zP ps 1 r)
  | .elem (.elem _ p) gs, 2, r => max (zP p 0 r) (zP gs 2 r)
  | .elem (.div (.index _) (.elem _ (.elem _ (.elem _ p)))) gs, 3, r => max (zP p 0 r) (zP gs 3 r)
  | _, _, _ => 0
end
section
variable (sy : List Sym) (pa : List (List Nat)) (pb : Nat → Nat) (lk : List (Nat × Nat)) (pr : Option Nat)
abbrev OFt := offP kpT false true sy pb pa lk pr
def tC0 (A : Tm) (l : Nat) (vis : List Nat) (slo shi : Nat) : Prop := ∀ (r : Nat → Int32) (h : mj_H) (lo hi f c : Nat) (x : Int32) (D : Nat), tQ pa lo hi h A 0 f c x → 1 ≤ lo → hi ≤ 7000 → tUK sy pa pb lk pr h → tcK sy vis r h → zP sy pb pa A 0 r ≤ 60000 → 3 * l + 120 ≤ D →
  mP (mj_R mg D mq_292 (0, [(0, vR 15 0), (1, vI x)], [], h)) (fun v h' => v = none ∧ gTv slo shi h h' ∧ lnT h h' (OFt sy pa pb lk pr A 0 r))
def tC1 (md : Nat) (ps : Tm) (l : Nat) (vis : List Nat) (slo shi : Nat) : Prop := ∀ (r : Nat → Int32) (h : mj_H) (lo hi : Nat) (x x1 : Int32) (D : Nat), tQ pa lo hi h ps md 0 0 x → 1 ≤ lo → hi ≤ 7000 → tUK sy pa pb lk pr h → tcK sy vis r h → zP sy pb pa ps md r ≤ 60000 → 3 * l + 120 ≤ D →
  mP (mj_R mg (D + 1) mq_293 (7, [(2, vI x), (0, vR 15 0), (1, vI x1)], [], h)) (fun v h' => v = none ∧ gTv slo shi h h' ∧ lnT h h' (OFt sy pa pb lk pr ps md r))
end
section
variable {sy : List Sym} {pa : List (List Nat)} {pb : Nat → Nat} {lk : List (Nat × Nat)} {pr : Option Nat}
theorem tE_nmC {u lo hi k : Nat} {vis : List Nat} {h : mj_H} {a : Tm} (w : wfC sy vis a) (b : tE u lo hi h a k) : h.1 89 0 k = nI (tw (nmT a)) ∧ (lo ≤ k ∧ k < hi) ∧ nmT a ∈ vis := sorry
theorem tQ_kd {h : mj_H} : ∀ (A : Tm) (m l : Nat) (vis : List Nat) (slo shi : Nat), wfQ sy pa A m l vis slo shi → m = 0 → ∀ (lo hi f c k : Nat), k < 2 ^ 31 → hi ≤ 7000 → tQ pa lo hi h A 0 f c (nI k) → ∃ w, h.1 87 0 k = nI w ∧ 20 ≤ w ∧ w ≤ 32 := sorry
theorem tcK.mvW {vis : List Nat} {r : Nat → Int32} {h h' : mj_H} {a b : Nat} (c : tcK sy vis r h) (f : gTv a b h h') (hl : vLt sy vis a) : tcK sy vis r h' := sorry
theorem gTv.zz {a b : Nat} {h h' : mj_H} (f : gTv 0 0 h h') : gTv a b h h' := sorry
theorem t_check (hP : ∀ p, p < pa.length → ∀ q, q ∈ pa.getD p [] → prm (srO sy q)) (hB : ∀ p, p < pa.length → ∀ q, q ∈ pa.getD p [] → srO sy q = 8 → pb q &&& 3 = 0) : ∀ (A : Tm) (m l : Nat) (vis : List Nat) (slo shi : Nat), wfQ sy pa A m l vis slo shi → shi ≤ sy.length → sy.length ≤ 200 → l ≤ 17 → vOK sy lk vis → vLt sy vis slo → (m = 0 → tC0 sy pa pb lk pr A l vis slo shi) ∧ (m = 1 → tC1 sy pa pb lk pr 1 A l vis slo shi) ∧ (m = 2 → tC1 sy pa pb lk pr 2 A l vis slo shi) ∧ (m = 3 → tC1 sy pa pb lk pr 3 A l vis slo shi) := sorry
end

