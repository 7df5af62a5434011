/-! the twin's uses: processes -/
theorem catN_sub {f : Nat → List Ev} {a b : Nat} (h : a ≤ b) {k : Ky} : k ∈ kys (catN f a) → k ∈ kys (catN f b) := sorry
theorem wfQ_no {sy : List Sym} {pa : List (List Nat)} {A : Tm} {m l : Nat} {vis : List Nat} {lo hi : Nat} (h1 : ∀ u, A = .div (.index u) .null → m = 0 → False) (h2 : ∀ u, A = .div (.index u) .result → m = 0 → False) (h3 : ∀ u v e, A = .div (.index u) (.add v e) → m = 0 → False) (h4 : ∀ u v e, A = .div (.index u) (.sub v e) → m = 0 → False) (h5 : ∀ u v e, A = .div (.index u) (.mul v e) → m = 0 → False) (h6 : ∀ u p as, A = .div (.index u) (.elem (.index p) as) → m = 0 → False) (h7 : ∀ u ps, A = .div (.index u) (.length ps) → m = 0 → False) (h8 : ∀ u s e1 e2 p, A = .div (.index u) (.rem (.arg s) (.elem (.elem e1 e2) p)) → m = 0 → False) (h9 : ∀ u z ps, A = .div (.index u) (.sum (.elem (.index z) ps)) → m = 0 → False) (h10 : ∀ u s b n p, A = .div (.index u) (.rem (.index s) (.elem (.elem (.index b) (.index n)) p)) → m = 0 → False) (h11 : ∀ u z ps, A = .div (.index u) (.old (.elem (.index z) ps)) → m = 0 → False) (h12 : ∀ u gs, A = .div (.index u) (.rem .null gs) → m = 0 → False) (h13 : ∀ u e p, A = .div (.index u) (.div e p) → m = 0 → False) (h14 : ∀ u gs, A = .div (.index u) (.rem .result gs) → m = 0 → False) (h15 : ∀ u s c p, A = .div (.index u) (.rem (.elem (.index s) (.index c)) p) → m = 0 → False) (h16 : A = .null → m = 1 → False) (h17 : ∀ p ps, A = .elem p ps → m = 1 → False) (h18 : A = .null → m = 2 → False) (h19 : ∀ e p gs, A = .elem (.elem e p) gs → m = 2 → False) (h20 : A = .null → m = 3 → False) (h21 : ∀ u e c v p gs, A = .elem (.div (.index u) (.elem e (.elem c (.elem v p)))) gs → m = 3 → False) (h : wfQ sy pa A m l vis lo hi) : False := sorry
def gTc (a b : Nat) (h h' : mj_H) : Prop := (∀ g i j, ¬ ((g = 15 ∧ j = 61) ∨ (111 ≤ g ∧ g ≤ 114) ∨ (g = 85 ∧ a + 2 ≤ j ∧ j < b + 2)) → h'.1 g i j = h.1 g i j) ∧ h'.2 = h.2
theorem gTc.rf (a b : Nat) (h : mj_H) : gTc a b h h := sorry
theorem gTc.tr {a b : Nat} {h h1 h2 : mj_H} (x : gTc a b h h1) (y : gTc a b h1 h2) : gTc a b h h2 := sorry
theorem gTc.le {a b a' b' : Nat} {h h' : mj_H} (x : gTc a b h h') (ha : a' ≤ a) (hb : b ≤ b') : gTc a' b' h h' := sorry
theorem gTu.c {a b : Nat} {h h' : mj_H} (x : gTu h h') : gTc a b h h' := sorry
theorem gTc.v {a b : Nat} {h h' : mj_H} (x : gTc a b h h') : gTv a b h h' := sorry
theorem gTc.k {a b lo hi : Nat} {h h' : mj_H} (f : gTc a b h h') : tK lo hi h h' := sorry
/-- names that are seen lie below lo, or are the host's -/
theorem tcK.mvV {sy : List Sym} {vis : List Nat} {r : Nat → Int32} {h h' : mj_H} {a b : Nat} (c : tcK sy vis r h) (f : gTc a b h h') (hl : vLt sy vis a) : tcK sy vis r h' := sorry
theorem tcK.cons {sy : List Sym} {vis : List Nat} {r : Nat → Int32} {h : mj_H} {s : Nat} (c : tcK sy vis r h) (h1 : srO sy s ≠ 11) : tcK sy (s :: vis) r h := sorry
theorem tcK.see {sy : List Sym} {vis : List Nat} {r : Nat → Int32} {h : mj_H} {s m : Nat} (c : tcK sy vis r h) (hd : ∀ k, k < m → dcl sy (s + k)) : tcK sy (seeS vis s m) r h := sorry
theorem tcK.up {sy : List Sym} {vis : List Nat} {r : Nat → Int32} {h : mj_H} {s : Nat} {v : Int32} (c : tcK sy vis r h) (hs : s < 200) (hv : ∀ t ∈ vis, t < 202) : tcK sy (s :: vis) (upE r s v) (mj_sI h 85 0 (s + 2) v) := sorry
section
variable (sy : List Sym) (pa : List (List Nat)) (pb : Nat → Nat) (lk : List (Nat × Nat)) (pr : Option Nat)
abbrev EVt := evP kpT false sy pb pa
def tP0 (A : Tm) (l : Nat) (vis : List Nat) (slo shi : Nat) : Prop := ∀ (r : Nat → Int32) (h : mj_H) (lo hi f c : Nat) (x : Int32) (D : Nat) (pre E : List Ev), tQ pa lo hi h A 0 f c x → 1 ≤ lo → hi ≤ 7000 → tUK sy pa pb lk pr h → tcK sy vis r h → tS pre E h → pre.length + nk (E ++ EVt sy pa pb A 0 r) ≤ 60000 → 3 * l + 100 ≤ D →
  mP (mj_R mg D mq_282 (0, [(0, vR 15 0), (1, vI x)], [], h)) (fun v h' => v = none ∧ gTc slo shi h h' ∧ tS pre (E ++ EVt sy pa pb A 0 r) h')
def tP1 (ps : Tm) (l : Nat) (vis : List Nat) (slo shi : Nat) : Prop := ∀ (r : Nat → Int32) (h : mj_H) (lo hi : Nat) (x x1 : Int32) (D : Nat) (pre E : List Ev), tQ pa lo hi h ps 1 0 0 x → 1 ≤ lo → hi ≤ 7000 → tUK sy pa pb lk pr h → tcK sy vis r h → tS pre E h → pre.length + nk (E ++ EVt sy pa pb ps 1 r) ≤ 60000 → 3 * l + 100 ≤ D →
  mP (mj_R mg (D + 1) mq_282 (257, [(2, vI x), (0, vR 15 0), (1, vI x1)], [], h)) (fun v h' => v = none ∧ gTc slo shi h h' ∧ tS pre (E ++ EVt sy pa pb ps 1 r) h')
def tPG (md : Nat) (gs : Tm) (l : Nat) (vis : List Nat) (slo shi : Nat) : Prop := ∀ (r : Nat → Int32) (h : mj_H) (lo hi : Nat) (x x1 : Int32) (D : Nat) (pre E : List Ev), tQ pa lo hi h gs md 0 0 x → 1 ≤ lo → hi ≤ 7000 → tUK sy pa pb lk pr h → tcK sy vis r h → tS pre E h → pre.length + nk (E ++ EVt sy pa pb gs md r) ≤ 60000 → 3 * l + 100 ≤ D →
  mP (mj_R mg (D + 1) mq_282 (309, [(2, vI x), (0, vR 15 0), (1, vI x1)], [], h)) (fun v h' => v = none ∧ gTc slo shi h h' ∧ tS pre (E ++ EVt sy pa pb gs md r) h')
end
theorem nI_ps1 {k : Nat} (h : 1 ≤ k) (hk : k < 2 ^ 31) : ¬ nI k ≤ 0 := sorry
section
variable {sy : List Sym} {pa : List (List Nat)} {pb : Nat → Nat} {lk : List (Nat × Nat)} {pr : Option Nat} {vis : List Nat} {r : Nat → Int32} {u : Nat} {pre : List Ev}
theorem t_uargs {D : Nat} {x1 : Int32} (hv : vOK sy lk vis) (hD : 70 ≤ D) {p : Nat} (hp : p < pa.length) : ∀ (qs : List Nat) (as : Tm) (x : Int32) (lo hi : Nat) (h : mj_H) (E : List Ev), wfA sy vis qs as → tAs u lo hi h qs as x → (∀ q, q ∈ qs → q ∈ pa.getD p []) → 1 ≤ lo → hi ≤ 7000 → tUK sy pa pb lk pr h → tcK sy vis r h → tS pre E h → pre.length + nk (E ++ evA kpT sy pb r qs as) ≤ 60000 →
    mP (mj_R mg (D + 1) mq_282 (145, [(2, vI x), (0, vR 15 0), (1, vI x1)], [], h)) (fun v h' => v = none ∧ gTu h h' ∧ tS pre (E ++ evA kpT sy pb r qs as) h') := sorry
theorem t_all_use : ∀ (A : Tm) (m l : Nat) (vis : List Nat) (slo shi : Nat), wfQ sy pa A m l vis slo shi → shi ≤ sy.length → sy.length ≤ 200 → l ≤ 17 → vOK sy lk vis → vLt sy vis slo → (m = 0 → tP0 sy pa pb lk pr A l vis slo shi) ∧ (m = 1 → tP1 sy pa pb lk pr A l vis slo shi) ∧ (m = 2 → tPG sy pa pb lk pr 2 A l vis slo shi) ∧ (m = 3 → tPG sy pa pb lk pr 3 A l vis slo shi) := sorry
end

