/-! the component's coder: processes, what is needed -/
/-- labels of a row that is begun when there is too much already -/
def tO : Tm → Nat → Nat
  | .elem (.elem e _) gs, 2 => 1 + lE e + tO gs 2
  | .elem (.div (.index _) (.elem _ (.elem _ (.elem v _)))) gs, 3 => lE v + tO gs 3
  | _, _ => 0
def lH : Tm → Nat
  | .elem (.div (.index _) (.elem e (.elem c (.elem _ _)))) gs => lE e + lE c + lH gs
  | _ => 0
/-- labels beyond the instructions that still fit -/
def tL : Tm → Nat → Nat
  | .div (.index _) (.rem (.elem (.index _) (.index _)) p), 0 => tL p 0
  | .div (.index _) (.add v e), 0 => lE e + lE v
  | .div (.index _) (.sub c e), 0 => lE e + lE c
  | .div (.index _) (.mul c v), 0 => lE v + lE c
  | .div (.index _) (.elem (.index _) as), 0 => lA as
  | .div (.index _) (.length ps), 0 => tL ps 1
  | .div (.index _) (.rem (.arg _) (.elem (.elem e1 e2) p)), 0 => lE e1 + lE e2 + 2 + tL p 0
  | .div (.index _) (.sum (.elem (.index _) ps)), 0 => 2 + 2 * tmN ps + tL ps 1
  | .div (.index _) (.old (.elem (.index _) ps)), 0 => 2 + 2 * tmN ps + tL ps 1
  | .div (.index _) (.rem (.index _) (.elem (.elem (.index _) (.index m)) p)), 0 => 2 + 2 * m + tL p 0
  | .div (.index _) (.rem .null gs), 0 => 1 + tL gs 2
  | .div (.index _) (.div e p), 0 => lE e + 2 + tL p 0
  | .div (.index _) (.rem .result gs), 0 => lH gs + tmN gs + 2 + tO gs 3 + tL gs 3
  | .elem p ps, 1 => max (tL p 0) (tL ps 1)
  | .elem (.elem e p) gs, 2 => max (1 + lE e + tL p 0 + tO gs 2) (tL gs 2)
  | .elem (.div (.index _) (.elem _ (.elem _ (.elem v p)))) gs, 3 => max (lE v + tL p 0 + tO gs 3) (tL gs 3)
  | _, _ => 0
def bL (n : Nat) (A : Tm) (m : Nat) : Nat := if 6000 < n then tO A m else (6000 - n) + tL A m
/-- labels: how many came -/
def lbQ (n lc lc' N t : Nat) : Prop := (n + N ≤ 6000 → lc' ≤ lc + N) ∧ lc' ≤ lc + t
theorem CK.ov {n m lc f : Nat} {h : mj_H} (a : CK n lc f h) (hn : 6000 < n) : CK (n + m) lc f h := sorry
theorem TyC.ov {s : Nat × Nat × Nat} {n lc f : Nat} {ve : List (Nat × Nat)} {C : List It} {h : mj_H} (a : CK n lc f h) (hn : 6000 < n) : TyC s n lc ve C lc f h h := sorry
/-- a label that was placed ahead -/
theorem TyC.top {s : Nat × Nat × Nat} {l t n l1 fr : Nat} {ve : List (Nat × Nat)} {C : List It} {h0 h h1 : mj_H} (p : kF s n l h0 h) (a : TyC s n (l + 1) ((l, t) :: ve) C l1 fr h h1) (hp : n + C.length ≤ 6000 → h.1 64 0 l = nI t) : TyC s n l ve C l1 fr h0 h1 := sorry
def qSt (sy : List Sym) (pa : List (List Nat)) (pz : List (Nat × Nat)) (vis : List Nat) (rh : Nat → Nat × Nat) (D : Nat → Int32) (lv : Nat) (r : Nat → Int32) (h : mj_H) : Prop :=
  SYc h sy ∧ (∀ s ∈ vis, inSy sy s) ∧ kPr sy pa pz h ∧ (∀ s ∈ vis, (srO sy s = 11 → h.1 36 0 s = r s) ∧ (srO sy s ≠ 11 → srO sy s ≠ 1 → srO sy s ≠ 0 → (rh s).1 ≤ lv ∧ h.1 35 0 s = nI (rh s).1 ∧ h.1 36 0 s = nI (rh s).2)) ∧ (∀ l, l ≤ lv → h.1 66 0 l = D l) ∧ h.1 10 0 12 = nI lv ∧ lv < 40 ∧ D lv = 0
section
variable {sy : List Sym} {pa : List (List Nat)} {pz : List (Nat × Nat)} {vis : List Nat} {rh : Nat → Nat × Nat} {D : Nat → Int32} {lv : Nat} {r : Nat → Int32} {u lo hi : Nat}
theorem qSt.e {h : mj_H} (a : qSt sy pa pz vis rh D lv r h) : eS sy vis (wdO rh D) r h := sorry
theorem qSt.mv {h h' : mj_H} {s : Nat × Nat × Nat} {n l : Nat} (a : qSt sy pa pz vis rh D lv r h) (f : kF s n l h h') (hl : lv ≤ s.2.2) (hv : ∀ t ∈ vis, t < s.1 ∨ s.2.1 ≤ t) : qSt sy pa pz vis rh D lv r h' := sorry
theorem qSt.mv0 {h h' : mj_H} {n l : Nat} (a : qSt sy pa pz vis rh D lv r h) (f : kF s0 n l h h') : qSt sy pa pz vis rh D lv r h' := sorry
theorem kF.s {s : Nat × Nat × Nat} {n l : Nat} {h h' : mj_H} (a1 : kF s0 n l h h') (hs : s.2.2 ≤ 40) : kF s n l h h' := sorry
theorem TyC.s {s : Nat × Nat × Nat} {n lc l1 f : Nat} {ve : List (Nat × Nat)} {C : List It} {h h' : mj_H} (a : TyC s0 n lc ve C l1 f h h') (hs : s.2.2 ≤ 40) : TyC s n lc ve C l1 f h h' := sorry
theorem c_jmp {D n lc fr : Nat} {s : Nat × Nat × Nat} {ve : List (Nat × Nat)} {h : mj_H} (hK : CK n lc fr h) (f : Nat) (x1 : Int32) (hx : x1 = nI f) {l t : Nat} (hl : l < 12000) (hv : (l, t) ∈ ve) : ∃ h', mj_R mg (D + 2) mq_132 (0, [(0, vR 10 0), (1, vI x1), (2, vI (nI l))], [], h) = some (.inl (none, h')) ∧ TyC s n lc ve [iW f t] lc fr h h' := sorry
/-- WHILE -/
theorem k_while (hh : hi ≤ 3100) {k a q n lc Dp slo shi N : Nat} {e : Tm} {ve : List (Nat × Nat)} {h : mj_H} {P : List It} {tp : Nat} (we : wfX sy vis e) (x : rN u lo hi h k 12) (x1 : h.1 23 0 k = nI a) (be : rE u lo hi h e a) (S : qSt sy pa pz vis rh D lv r h) (hK : CK n lc q h) (hD : 70 ≤ Dp) (hN : P.length = N) (hl : n ≤ 6000) (hb : lc + (6000 - n) + (lE e + 2 + tp) ≤ 12000)
    (ih : ∀ h1 l1 ve', kF s0 n lc h h1 → CK (n + nE sy e + 1) l1 q h1 → l1 + (if 6000 < n + nE sy e + 1 then 0 else 6000 - (n + nE sy e + 1) + tp) ≤ 12000 → ∃ h' lc', mj_R mg Dp mq_142 (0, [(0, vR 10 0), (1, vI (h.1 24 0 k))], [], h1) = some (.inl (none, h')) ∧ TyC (slo, shi, lv) (n + nE sy e + 1) l1 ve' P lc' q h1 h' ∧ lbQ (n + nE sy e + 1) l1 lc' N (if 6000 < n + nE sy e + 1 then 0 else 6000 - (n + nE sy e + 1) + tp)) :
    ∃ h' lc', mj_R mg (Dp + 1) mq_147 (0, [(0, vR 10 0), (1, vI (nI k))], [], h) = some (.inl (none, h')) ∧ TyC (slo, shi, lv) n lc ve (kE sy (wdO rh D) r e q n ++ iW 10 (n + nE sy e + N + 2) :: (P ++ [iW 0 n])) lc' q h h' ∧ lbQ n lc lc' (nE sy e + N + 2) (6000 - n + (lE e + 2 + tp)) := sorry
end

