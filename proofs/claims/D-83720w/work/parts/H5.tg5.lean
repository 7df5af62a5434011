/-! the twin's coder: labels that are placed in the midst; the state within processes -/
/-- as fY, but labels of W may be placed too -/
def fM (s : Nat × Nat × Nat × Nat) (n : Nat) (W : Nat → Nat) (l : Nat) (h h' : mj_H) : Prop := (∀ g i j, ¬ ((116 ≤ g ∧ g ≤ 119 ∧ n ≤ j) ∨ (g = 122 ∧ (l < j ∨ W j = 1)) ∨ (g = 15 ∧ (j = 70 ∨ j = 77 ∨ j = 79)) ∨ (g = 85 ∧ s.1 + 2 ≤ j ∧ j < s.2.1 + 2) ∨ (g = 123 ∧ s.2.2.1 < j) ∨ ((g = 128 ∨ g = 129) ∧ 8 * s.2.2.1 ≤ j) ∨ (g = 130 ∧ 8 * s.2.2.2 ≤ j)) → h'.1 g i j = h.1 g i j) ∧ h'.2 = h.2
def vlM (W : Nat → Nat) (lo hi : Nat) (ve : List (Nat × Nat)) (h : mj_H) (l t : Nat) : Prop := (lo < l ∧ l ≤ hi ∧ ¬ W l = 1 ∧ h.1 122 0 l = nI t) ∨ (l, t) ∈ ve
def TyM (s : Nat × Nat × Nat × Nat) (n : Nat) (W : Nat → Nat) (l : Nat) (ve : List (Nat × Nat)) (C : List It) (l' : Nat) (h h' : mj_H) : Prop := fM s n W l h h' ∧ KG (n + C.length) l' h' ∧ l ≤ l' ∧ (n + C.length ≤ 7000 → cdV (vlM W l l' ve h') h' n C)
section
variable {s : Nat × Nat × Nat × Nat} {n n1 l l1 l2 : Nat} {W W' : Nat → Nat} {ve : List (Nat × Nat)} {A B C : List It} {h h1 h2 : mj_H}
theorem fY.toM (a : fY s n l h h1) : fM s n W l h h1 := sorry
theorem fM.tr (a : fM s n W l h h1) (b : fM s n1 W l1 h1 h2) (hn : n ≤ n1) (hl : l ≤ l1) : fM s n W l h h2 := sorry
theorem TyG.toM (a : TyG s n l ve C l1 h h1) (hW : ∀ j, W j = 1 → ¬ (l < j ∧ j ≤ l1)) : TyM s n W l ve C l1 h h1 := sorry
theorem TyM.ap (a : TyM s n W l ve A l1 h h1) (b : TyM s n1 W l1 ve B l2 h1 h2) (hn : n1 = n + A.length) : TyM s n W l ve (A ++ B) l2 h h2 := sorry
theorem TyM.nil (K : KG n l h) : TyM s n W l ve [] l h h := sorry
theorem TyM.pl {p : Nat} {v : Int32} (K : KG n l (mj_sI h 122 0 p v)) (hp : W p = 1) : TyM s n W l ve [] l h (mj_sI h 122 0 p v) := sorry
theorem TyM.lab (a : fY s n l h h1) (K : KG n l1 h1) (hl : l ≤ l1) : TyM s n W l ve [] l1 h h1 := sorry
theorem TyM.mo (a : TyM s n W l ve C l1 h h1) (h1' : ∀ j, W j = 1 → W' j = 1) (h2' : ∀ j, W' j = 1 → l < j → j ≤ l1 → W j = 1) : TyM s n W' l ve C l1 h h1 := sorry
theorem TyM.le {s' : Nat × Nat × Nat × Nat} (a : TyM s n W l ve C l1 h h1) (q1 : s'.1 ≤ s.1) (q2 : s.2.1 ≤ s'.2.1) (q3 : s'.2.2.1 ≤ s.2.2.1) (q4 : s'.2.2.2 ≤ s.2.2.2) : TyM s' n W l ve C l1 h h1 := sorry
theorem KG.ov {m : Nat} (a : KG n l h) (hn : 7000 < n) : KG (n + m) l h := sorry
theorem TyM.ov (K : KG n l h) (hn : 7000 < n) : TyM s n W l ve C l h h := sorry
theorem TyM.ovm {C' : List It} (a : TyM s n W l ve C l1 h h1) (hn : 7000 < n + C.length) (hC : C.length ≤ C'.length) : TyM s n W l ve C' l1 h h1 := sorry
/-- all of them have been placed -/
theorem TyM.fin {lb : Nat} {ve0 : List (Nat × Nat)} {h0 : mj_H} (p : fY s n lb h0 h) (a : TyM s n W l (ve0 ++ ve) C l1 h h1) (hl : lb ≤ l) (hW : ∀ j, W j = 1 → lb < j) (hp : n + C.length ≤ 7000 → ∀ x, x ∈ ve0 → lb < x.1 ∧ x.1 ≤ l1 ∧ h1.1 122 0 x.1 = nI x.2) : TyG s n lb ve C l1 h0 h1 := sorry
end
/-- labels: all that a process may need -/
def tWl : Tm → Nat → Nat
  | .div (.index _) (.rem (.elem (.index _) (.index _)) p), 0 => tWl p 0
  | .div (.index _) (.add v e), 0 => lE e + lE v
  | .div (.index _) (.sub c e), 0 => lE e + lE c
  | .div (.index _) (.mul c v), 0 => lE v + lE c
  | .div (.index _) (.elem (.index _) as), 0 => lA as
  | .div (.index _) (.length ps), 0 => tWl ps 1
  | .div (.index _) (.rem (.arg _) (.elem (.elem e1 e2) p)), 0 => lE e1 + lE e2 + 2 + tWl p 0
  | .div (.index _) (.sum (.elem (.index _) ps)), 0 => 2 + 2 * tmN ps + tWl ps 1
  | .div (.index _) (.old (.elem (.index _) ps)), 0 => 2 + 2 * tmN ps + tWl ps 1
  | .div (.index _) (.rem (.index _) (.elem (.elem (.index _) (.index m)) p)), 0 => 2 + 2 * m + tWl p 0
  | .div (.index _) (.rem .null gs), 0 => 1 + tWl gs 2
  | .div (.index _) (.div e p), 0 => lE e + 2 + tWl p 0
  | .div (.index _) (.rem .result gs), 0 => lH gs + tmN gs + 2 + tWl gs 3
  | .elem p ps, 1 => tWl p 0 + tWl ps 1
  | .elem (.elem e p) gs, 2 => 1 + lE e + tWl p 0 + tWl gs 2
  | .elem (.div (.index _) (.elem _ (.elem _ (.elem v p)))) gs, 3 => lE v + tWl p 0 + tWl gs 3
  | _, _ => 0
def lbT (n lc lc' N t : Nat) : Prop := (n + N ≤ 7000 → lc' ≤ lc + N) ∧ lc' ≤ lc + ((7000 - n) + t)
/-- all names' kinds and sizes -/
def gSy (sy : List Sym) (h : mj_H) : Prop := sy.length ≤ 200 ∧ ∀ s, inSy sy s → h.1 79 0 (tw s) = nI (kdS sy s) ∧ (s < 200 → h.1 80 0 (tw s) = nI (szT (srO sy s) (szO sy s)) ∧ h.1 84 0 (tw s) = nI (nuT (srO sy s) (szO sy s))) ∧ srO sy s ≤ 11
/-- within processes -/
def qY (sy : List Sym) (pa : List (List Nat)) (pz : List (Nat × Nat)) (vis : List Nat) (rh : Nat → Nat × Nat) (D : Nat → Int32) (lv al : Nat) (r : Nat → Int32) (h : mj_H) : Prop :=
  gSy sy h ∧ (∀ s ∈ vis, inSy sy s) ∧ gPr sy pa pz h ∧ (∀ s ∈ vis, (srO sy s = 11 → h.1 85 0 (tw s) = r s) ∧ (srO sy s ≠ 11 → srO sy s ≠ 1 → srO sy s ≠ 0 → (rh s).1 ≤ lv ∧ h.1 82 0 (tw s) = nI (rh s).1 ∧ h.1 81 0 (tw s) = nI (rh s).2)) ∧ (∀ l, l ≤ lv → h.1 123 0 l - h.1 123 0 lv = D l) ∧ h.1 15 0 81 = nI lv ∧ lv < 40 ∧ h.1 15 0 89 = nI al ∧ al < 40
theorem i_mix (x y z : Int32) : (x + y) - z = (y - z) + x := sorry
section
variable {sy : List Sym} {pa : List (List Nat)} {pz : List (Nat × Nat)} {vis : List Nat} {rh : Nat → Nat × Nat} {D : Nat → Int32} {lv al : Nat} {r : Nat → Int32} {u : Nat}
theorem qY.e {h : mj_H} (a : qY sy pa pz vis rh D lv al r h) : eG sy vis (wdO rh D) r lv h := sorry
theorem qY.D0 {h : mj_H} (a : qY sy pa pz vis rh D lv al r h) : D lv = 0 := sorry
theorem tw_rg {s : Nat} (h : inSy sy s) (hl : sy.length ≤ 200) {slo shi : Nat} (h2 : s < slo ∨ 200 ≤ s) (h3 : shi ≤ 200) : ¬ (slo + 2 ≤ tw s ∧ tw s < shi + 2) := sorry
theorem qY.mvM {h h' : mj_H} {slo shi lv' al' n l : Nat} {W : Nat → Nat} (a : qY sy pa pz vis rh D lv al r h) (f : fM (slo, shi, lv', al') n W l h h') (hl : lv ≤ lv') (hv : vAp vis slo) (hs : shi ≤ 200) : qY sy pa pz vis rh D lv al r h' := sorry
theorem qY.mv {h h' : mj_H} {slo shi lv' al' n l : Nat} (a : qY sy pa pz vis rh D lv al r h) (f : fY (slo, shi, lv', al') n l h h') (hl : lv ≤ lv') (hv : vAp vis slo) (hs : shi ≤ 200) : qY sy pa pz vis rh D lv al r h' := sorry
theorem qY.mv0 {h h' : mj_H} {n l : Nat} (a : qY sy pa pz vis rh D lv al r h) (f : fY sT0 n l h h') : qY sy pa pz vis rh D lv al r h' := sorry
/-- what is known of a process within -/
def inG (s : Nat × Nat × Nat × Nat) (n lc : Nat) (h : mj_H) (n1 N tp Dp : Nat) (P : List It) (x : Int32) : Prop := ∀ h1 l1 ve', fY s n lc h h1 → lc ≤ l1 → KG n1 l1 h1 → l1 + ((7000 - n1) + tp) < 19990 → ∃ h' lc', mj_R mg Dp mq_306 (0, [(0, vR 15 0), (1, vI x)], [], h1) = some (.inl (none, h')) ∧ TyG s n1 l1 ve' P lc' h1 h' ∧ lbT n1 l1 lc' N tp
end

