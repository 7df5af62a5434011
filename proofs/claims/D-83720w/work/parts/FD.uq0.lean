/-! both find the same uses -/
def evR (sy : List Sym) (vis : List Nat) (C T : List Ev) : Prop := ∀ k : Ky, (k.1 ∈ vis → (kepS (srO sy k.1) = true → orm C k = orm T k) ∧ (kepS (srO sy k.1) = false → orm C k = 0 ∧ orm T k ≤ 1)) ∧ (k.1 ∉ vis → orm C k = 0)
def vL2 (vis : List Nat) (lo : Nat) : Prop := ∀ s ∈ vis, s < lo ∨ 200 ≤ s
theorem or_le1 {a b : Nat} (ha : a ≤ 1) (hb : b ≤ 1) : a ||| b ≤ 1 := sorry
theorem evR.nil (sy : List Sym) (vis : List Nat) : evR sy vis [] [] := sorry
theorem evR.ap {sy : List Sym} {vis : List Nat} {C T C' T' : List Ev} (a : evR sy vis C T) (b : evR sy vis C' T') : evR sy vis (C ++ C') (T ++ T') := sorry
theorem evR.one {sy : List Sym} {vis : List Nat} {e : Ev} (h1 : e.1.1 ∈ vis) (h2 : kepS (srO sy e.1.1) = true) : evR sy vis [e] [e] := sorry
theorem evR.rd {sy : List Sym} {vis : List Nat} {e : Ev} (h2 : kepS (srO sy e.1.1) = false) (h1 : e.2 = 1) : evR sy vis [] [e] := sorry
theorem kep_arr {k : Nat} (h : sArr k = true) : kepS k = true := sorry
theorem kep_var {k : Nat} (h : sVar k = true) : kepS k = true := sorry
theorem kep_chn {k : Nat} (h : sChn k = true) : kepS k = true := sorry
section
variable {sy : List Sym} {pa : List (List Nat)} {pc pt : Nat → Nat} {vis : List Nat}
theorem qE_all {r : Nat → Int32} : ∀ (e : Tm), wfE sy vis e → evR sy vis (evE (kpC sy) sy r e) (evE kpT sy r e) := sorry
theorem qT_all {r : Nat → Int32} {m m' : Nat} {t : Tm} (hm : m = m') (w : (∃ s, t = .arg s ∧ s ∈ vis ∧ kepS (srO sy s) = true) ∨ ∃ s e, t = .elem (.arg s) e ∧ s ∈ vis ∧ kepS (srO sy s) = true ∧ wfX sy vis e) : evR sy vis (evT (kpC sy) sy r m t) (evT kpT sy r m' t) := sorry
theorem qV_w {t : Tm} (w : wfV sy vis t) : (∃ s, t = .arg s ∧ s ∈ vis ∧ kepS (srO sy s) = true) ∨ ∃ s e, t = .elem (.arg s) e ∧ s ∈ vis ∧ kepS (srO sy s) = true ∧ wfX sy vis e := sorry
theorem qC_w {t : Tm} (w : wfC sy vis t) : (∃ s, t = .arg s ∧ s ∈ vis ∧ kepS (srO sy s) = true) ∨ ∃ s e, t = .elem (.arg s) e ∧ s ∈ vis ∧ kepS (srO sy s) = true ∧ wfX sy vis e := sorry
theorem qR_w {q : Nat} {qs : List Nat} {a as : Tm} (w : wfA sy vis (q :: qs) (.elem a as)) (h3 : srO sy q ≠ 3) : (∃ s, a = .arg s ∧ s ∈ vis ∧ kepS (srO sy s) = true) ∨ ∃ s e, a = .elem (.arg s) e ∧ s ∈ vis ∧ kepS (srO sy s) = true ∧ wfX sy vis e := sorry
theorem qA_all {r : Nat → Int32} : ∀ (qs : List Nat) (as : Tm), wfA sy vis qs as → (∀ q, q ∈ qs → srO sy q ≠ 3 → pc q = pt q) → evR sy vis (evA (kpC sy) sy pc r qs as) (evA kpT sy pt r qs as) ∧ gvA sy pc r qs as = gvA sy pt r qs as ∧ ∀ lk w u, wfA_o sy pc lk w u qs as = wfA_o sy pt lk w u qs as := sorry
theorem evR.mn {vis' : List Nat} {C T : List Ev} (a : evR sy vis' C T) (h1 : ∀ s, s ∈ vis → s ∈ vis') (h2 : ∀ s, s ∈ vis' → s ∉ vis → kepS (srO sy s) = false) : evR sy vis C T := sorry
theorem qP_all (hp : ∀ p, p < pa.length → ∀ q, q ∈ pa.getD p [] → srO sy q ≠ 3 → pc q = pt q) : ∀ (A : Tm) (m l : Nat) (vis : List Nat) (slo shi : Nat), wfQ sy pa A m l vis slo shi → shi ≤ 200 → vL2 vis slo → ∀ (r : Nat → Int32), evR sy vis (evP (kpC sy) true sy pc pa A m r) (evP kpT false sy pt pa A m r) := sorry
/-- names beyond those that are seen lie from lo on -/
def tRg (vis : List Nat) (lo : Nat) (T : List Ev) : Prop := ∀ k, orm T k ≠ 0 → k.1 ∈ vis ∨ (lo ≤ k.1 ∧ k.1 < 200)
theorem orm_in {T : List Ev} {k : Ky} (h : orm T k ≠ 0) : ∃ e ∈ T, e.1 = k := sorry
theorem mcl_11 : ∀ a b : Fin 2, mcl a.1 b.1 = false := sorry
theorem cls_R {lo z : Nat} {C T C' T' : List Ev} (a : evR sy vis C T) (b : evR sy vis C' T') (t1 : tRg vis lo T) (hv : vL2 vis z) (hz : z ≤ lo) : cls (mkF false z) C C' = cls (mkF true z) T T' := sorry
def pqL (sy : List Sym) (vis : List Nat) (lo : Nat) : List (List Ev) → List (List Ev) → Prop
  | [], [] => True
  | C :: L, T :: M => evR sy vis C T ∧ tRg vis lo T ∧ pqL sy vis lo L M
  | _, _ => False
theorem clB_R {lo z : Nat} (hv : vL2 vis z) (hz : z ≤ lo) : ∀ {L M : List (List Ev)} {A B : List Ev}, pqL sy vis lo L M → evR sy vis A B → clB (mkF false z) A L = clB (mkF true z) B M := sorry
theorem pqL.ap {lo : Nat} {C T : List Ev} (h1 : evR sy vis C T) (h2 : tRg vis lo T) : ∀ {L M : List (List Ev)}, pqL sy vis lo L M → pqL sy vis lo (L ++ [C]) (M ++ [T]) := sorry
theorem brs_R (hp : ∀ p, p < pa.length → ∀ q, q ∈ pa.getD p [] → srO sy q ≠ 3 → pc q = pt q) (hP : ∀ p, p < pa.length → ∀ q, q ∈ pa.getD p [] → prm (srO sy q)) (hB : ∀ p, p < pa.length → ∀ q, q ∈ pa.getD p [] → srO sy q = 8 → pt q &&& 3 = 0) {r : Nat → Int32} {l lo shi : Nat} (hs : shi ≤ 200) : ∀ (n : Nat) (ps : Tm) (slo : Nat), tmN ps = n → wfQ sy pa ps 1 l vis slo shi → vL2 vis slo → lo ≤ slo → pqL sy vis lo (brs (kpC sy) true sy pc pa ps r) (brs kpT false sy pt pa ps r) := sorry
/-- both find the same offences -/
theorem ofq_all {lk : List (Nat × Nat)} {w : Option Nat} (hp : ∀ p, p < pa.length → ∀ q, q ∈ pa.getD p [] → srO sy q ≠ 3 → pc q = pt q) (hP : ∀ p, p < pa.length → ∀ q, q ∈ pa.getD p [] → prm (srO sy q)) (hB : ∀ p, p < pa.length → ∀ q, q ∈ pa.getD p [] → srO sy q = 8 → pt q &&& 3 = 0) : ∀ (A : Tm) (m l : Nat) (vis : List Nat) (slo shi : Nat), wfQ sy pa A m l vis slo shi → shi ≤ 200 → vL2 vis slo → ∀ (r : Nat → Int32), ∀ u, u ∈ offP (kpC sy) true false sy pc pa lk w A m r ↔ u ∈ offP kpT false true sy pt pa lk w A m r := sorry
end
section
variable {sy : List Sym} {pa : List (List Nat)} {bs : List Tm} {lk : List (Nat × Nat)} {rt : List (Nat × Tm)}
theorem bdy_vis {f n r1 nl k : Nat} {v : List Nat} (b3 : r1 + 1 = f) (b5 : ∀ s ∈ v, glo k nl sy s ∧ (s < r1 ∨ 200 ≤ s)) : vL2 (seeS v f n) (f + n) := sorry
/-- what PROCs do with their parameters: the same -/
theorem pb_eq {nl : Nat} {sg : Nat → Nat × Nat} (hs : sy.length ≤ 200) (hbl : bs.length = pa.length) (hr : rgs sy.length bs.length rt sg) (hb : ∀ k B, bs[k]? = some B → bdy sy pa nl k B (sg (2 * k))) : ∀ k, k ≤ bs.length → ∀ p, p < k → ∀ q, q ∈ pa.getD p [] → srO sy q ≠ 3 → pbF (kpC sy) true sy pa bs k q = pbF kpT false sy pa bs k q := sorry
/-- BOTH FIND THE SAME OFFENCES -/
theorem of_eq {vis : List Nat} {L : List PL} (W : wfG (pa, bs, lk, rt, sy, vis, L)) : ∀ u, u ∈ offB (kpC sy) true false sy pa bs lk bs.length ++ offR (kpC sy) true false sy pa bs lk rt 6 ↔ u ∈ offB kpT false true sy pa bs lk bs.length ++ offR kpT false true sy pa bs lk rt 6 := sorry
end

