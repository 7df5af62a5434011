/-! the component's coder: expressions, addresses -/
def s0 : Nat × Nat × Nat := (0, 0, 40)
theorem TyC.dsc {s : Nat × Nat × Nat} {l t n lc l1 fr : Nat} {ve : List (Nat × Nat)} {C : List It} {h0 h h1 : mj_H} (p : kF s n l h0 h) (a : TyC s n lc ((l, t) :: ve) C l1 fr h h1) (hl : l < lc) (ht : t = n + C.length) (b2 : CK (n + C.length) l1 fr (mj_sI h1 64 0 l (nI (min (n + C.length) 6000)))) : TyC s n l ve C l1 fr h0 (mj_sI h1 64 0 l (nI (min (n + C.length) 6000))) := sorry
/-- where names are -/
def kN (sy : List Sym) (vis : List Nat) (wd r : Nat → Int32) (h : mj_H) : Prop := ∀ s ∈ vis, (srO sy s = 11 → h.1 36 0 s = r s) ∧ (srO sy s ≠ 11 → srO sy s ≠ 1 → srO sy s ≠ 0 → ∃ l, l < 40 ∧ h.1 35 0 s = nI l ∧ h.1 66 0 l + h.1 36 0 s = wd s)
def eS (sy : List Sym) (vis : List Nat) (wd r : Nat → Int32) (h : mj_H) : Prop := SYc h sy ∧ (∀ s ∈ vis, inSy sy s) ∧ kN sy vis wd r h
section
variable {sy : List Sym} {vis : List Nat} {wd r : Nat → Int32} {u lo hi : Nat}
theorem kF.sym {s : Nat × Nat × Nat} {n l : Nat} {h h' : mj_H} (f : kF s n l h h') (a : SYc h sy) : SYc h' sy := sorry
theorem kF.gk {s : Nat × Nat × Nat} {n l : Nat} {h h' : mj_H} (f : kF s n l h h') : gK lo hi h h' := sorry
theorem eS.mv {n l : Nat} {h h' : mj_H} (a : eS sy vis wd r h) (f : kF s0 n l h h') : eS sy vis wd r h' := sorry
theorem eS.lb {h : mj_H} {v : Int32} (a : eS sy vis wd r h) : eS sy vis wd r (mj_sI h 10 0 9 v) := sorry
theorem eS.fr {h : mj_H} {v : Int32} (a : eS sy vis wd r h) : eS sy vis wd r (mj_sI h 10 0 13 v) := sorry
theorem c_at {d s : Nat} {h : mj_H} (a : eS sy vis wd r h) (hs : s ∈ vis) (h1 : srO sy s ≠ 11) (h2 : srO sy s ≠ 1) (h3 : srO sy s ≠ 0) : mj_R mg d mq_134 (0, [(0, vR 10 0), (1, vI (nI s))], [], h) = some (.inl (some (vI (wd s)), h)) := sorry
theorem s_at {s : Nat} {h : mj_H} (a : eS sy vis wd r h) (hs : s ∈ vis) : mj_in (nI s) 202 ∧ (nI s).toNatClampNeg = s ∧ h.2.2 33 0 s = srO sy s + 1 ∧ h.1 34 0 s = nI (szO sy s) := sorry
theorem c_val {D n lc f s : Nat} {ve : List (Nat × Nat)} {h : mj_H} (a : eS sy vis wd r h) (hs : s ∈ vis) (hv : sVal (srO sy s) = true) (hK : CK n lc f h) : ∃ h', mj_R mg (D + 3) mq_138 (0, [(0, vR 10 0), (1, vI (nI s))], [], h) = some (.inl (none, h')) ∧ TyC s0 n lc ve (kE sy wd r (.arg s) f n) lc f h h' := sorry
/-- the place of a name, behind its index -/
theorem c_ad2 {D n lc f s k w : Nat} {ve : List (Nat × Nat)} {h : mj_H} (hh : hi ≤ 3100) (a : eS sy vis wd r h) (hs : s ∈ vis) (n11 : srO sy s ≠ 11) (n0 : srO sy s ≠ 0) (hK : CK n lc f h) (b : rN u lo hi h k w) (hw : w = 17 ∨ w = 18) : ∃ h', mj_R mg (D + 4) mq_136 (96, [(4, vI (bI (hldS (srO sy s)))), (3, vR 18 (srO sy s)), (2, vI (nI s)), (0, vR 10 0), (1, vI (nI k))], [], h) = some (.inl (none, h')) ∧
    TyC s0 n lc ve ((if srO sy s = 1 then [iV 4 (nI (szO sy s))] else [iV (if hldS (srO sy s) then 7 else 1) (wd s)]) ++ if w = 18 then [iO 11] else []) lc f h h' := sorry
theorem c_ad1 {D s k w : Nat} {h : mj_H} (hh : hi ≤ 3100) (a : eS sy vis wd r h) (hs : s ∈ vis) (b : rN u lo hi h k w) (b2 : h.1 26 0 k = nI s) : mj_R mg (D + 1) mq_136 (0, [(0, vR 10 0), (1, vI (nI k))], [], h) = mj_R mg (D + 1) mq_136 (46, [(3, vR 18 (srO sy s)), (2, vI (nI s)), (0, vR 10 0), (1, vI (nI k))], [vI (bI (hldS (srO sy s)))], h) := sorry
end

