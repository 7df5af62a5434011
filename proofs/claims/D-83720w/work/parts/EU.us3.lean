/-! the component's uses: constants, links, things, expressions -/
def kpC (sy : List Sym) (s : Nat) : Bool := kepS (srO sy s)
def wI (w : Option Nat) : Int32 := match w with
  | none => -1
  | some p => nI p
def uK (sy : List Sym) (pa : List (List Nat)) (pb : Nat → Nat) (lk : List (Nat × Nat)) (w : Option Nat) (h : mj_H) : Prop :=
  SYc h sy ∧ pa.length ≤ 24 ∧ (∀ p, p < pa.length → (pa.getD p []).length ≤ 6 ∧ ∀ k q, (pa.getD p [])[k]? = some q → h.1 40 0 (6 * p + k) = nI q ∧ h.1 43 0 (6 * p + k) = nI (pb q) ∧ pb q < 16 ∧ inSy sy q) ∧
  lk.length ≤ 12 ∧ (∀ l, l < lk.length → h.1 44 0 l = nI (lk.getD l (0, 0)).1 ∧ h.1 45 0 l = nI (lk.getD l (0, 0)).2 ∧ (lk.getD l (0, 0)).1 ≤ 5 ∧ (lk.getD l (0, 0)).2 ≤ 5) ∧ h.1 8 0 8 = wI w ∧ ∀ p, w = some p → p ≤ 5
theorem uK.mv {sy : List Sym} {pa : List (List Nat)} {pb : Nat → Nat} {lk : List (Nat × Nat)} {w : Option Nat} {h h' : mj_H} {a b : Nat} (x : uK sy pa pb lk w h) (f : gV a b h h') : uK sy pa pb lk w h' := sorry
def vOK (sy : List Sym) (lk : List (Nat × Nat)) (vis : List Nat) : Prop := ∀ s ∈ vis, inSy sy s ∧ (srO sy s = 1 → s < 200 → szO sy s < lk.length)
def cK (sy : List Sym) (vis : List Nat) (r : Nat → Int32) (h : mj_H) : Prop := ∀ s ∈ vis, srO sy s = 11 → h.1 53 0 s = r s
theorem gUr.k {lo hi N : Nat} {h h' : mj_H} (f : gUr N h h') : gK lo hi h h' := sorry
theorem gV.k {a b lo hi : Nat} {h h' : mj_H} (f : gV a b h h') : gK lo hi h h' := sorry
theorem cK.mvU {N : Nat} {sy : List Sym} {vis : List Nat} {r : Nat → Int32} {h h' : mj_H} (a : cK sy vis r h) (f : gUr N h h') : cK sy vis r h' := sorry
theorem inSy_l2 {sy : List Sym} {s : Nat} (h : inSy sy s) (hl : sy.length ≤ 200) : s < 202 := sorry
theorem sr_at {sy : List Sym} {h : mj_H} {s : Nat} (a : SYc h sy) (hs : inSy sy s) : mj_in (nI s) 202 ∧ (mj_in (nI s) 202 ∧ 0 < h.2.2 33 0 (nI s).toNatClampNeg) ∧ (nI s).toNatClampNeg = s ∧ h.2.2 33 0 s = srO sy s + 1 ∧ h.1 34 0 s = nI (szO sy s) ∧ s < 202 := sorry
theorem fix_pl {sy : List Sym} {vis : List Nat} {e : Tm} : wfE sy vis e → eK e ≠ 19 → fixE sy e = plC sy e := sorry
theorem pl_19 {sy : List Sym} {vis : List Nat} {e : Tm} : wfE sy vis e → (eK e = 19 → plC sy e = false) ∧ nuE e = (eK e == 16) := sorry
section
variable {sy : List Sym} {pa : List (List Nat)} {pb : Nat → Nat} {lk : List (Nat × Nat)} {w : Option Nat} {vis : List Nat} {r : Nat → Int32} {u lo hi : Nat} {pre : List Ev}
theorem pt_at {h : mj_H} {k wt : Nat} (hh : hi ≤ 3100) (b : rN u lo hi h k wt) : mj_in (nI k) 3100 ∧ (mj_in (nI k) 3100 ∧ 0 < h.2.2 22 0 (nI k).toNatClampNeg) ∧ (nI k).toNatClampNeg = k := sorry
theorem wfE_no {P : Prop} {e : Tm} (h1 : ∀ v, e = .int v → False) (h2 : ∀ s, e = .arg s → False) (h3 : ∀ s x, e = .elem (.arg s) x → False) (h4 : ∀ x, e = .length x → False) (h5 : ∀ x, e = .sum x → False) (h6 : ∀ x, e = .old x → False) (h7 : ∀ o x y, e = .add (.index o) (.sub x y) → False) (w : wfE sy vis e) : P := sorry
theorem u_isC1 {h : mj_H} (hh : hi ≤ 3100) (hs : SYc h sy) (hv : vOK sy lk vis) {D : Nat} : ∀ (e : Tm) (k : Nat), wfE sy vis e → rE u lo hi h e k → eK e ≠ 19 → mj_R mg (D + 1) mq_112 (0, [(0, vR 8 0), (1, vI (nI k))], [], h) = some (.inl (some (vI (bI (plC sy e))), h)) := sorry
theorem u_isC {h : mj_H} (hh : hi ≤ 3100) (hs : SYc h sy) (hv : vOK sy lk vis) {D : Nat} : ∀ (e : Tm) (k : Nat), wfE sy vis e → rE u lo hi h e k → mj_R mg (D + 2) mq_112 (0, [(0, vR 8 0), (1, vI (nI k))], [], h) = some (.inl (some (vI (bI (fixE sy e))), h)) := sorry
theorem nu_at {h : mj_H} {e : Tm} : ∀ {k : Nat}, nuE e = true → rE u lo hi h e k → h.1 26 0 k = cstE r e := sorry
theorem u_con1 {h : mj_H} (hh : hi ≤ 3100) (hs : SYc h sy) (hv : vOK sy lk vis) (hc : cK sy vis r h) {D : Nat} : ∀ (e : Tm) (k : Nat), wfE sy vis e → rE u lo hi h e k → plC sy e = true → mj_R mg (D + 1) mq_113 (0, [(0, vR 8 0), (1, vI (nI k))], [], h) = some (.inl (some (vI (cstE r e)), h)) := sorry
theorem u_con {h : mj_H} (hh : hi ≤ 3100) (hs : SYc h sy) (hv : vOK sy lk vis) (hc : cK sy vis r h) {D : Nat} : ∀ (e : Tm) (k : Nat), wfE sy vis e → rE u lo hi h e k → fixE sy e = true → mj_R mg (D + 2) mq_113 (0, [(0, vR 8 0), (1, vI (nI k))], [], h) = some (.inl (some (vI (cstE r e)), h)) := sorry
theorem nI_b16 : ∀ a : Fin 16, (nI a.1 &&& 4 = 0 ↔ a.1 &&& 4 = 0) ∧ (nI a.1 &&& 8 = 0 ↔ a.1 &&& 8 = 0) ∧ (nI a.1 = 4 ↔ a.1 = 4) ∧ (nI a.1 = 8 ↔ a.1 = 8) ∧ (nI a.1 = 0 ↔ a.1 = 0) ∧ (nI a.1 &&& 2 = 0 ↔ a.1 &&& 2 = 0) ∧ (nI a.1 &&& 3 = 0 ↔ a.1 &&& 3 = 0) ∧ (nI a.1 &&& 1 = 0 ↔ a.1 &&& 1 = 0) := sorry
theorem u_wire {h : mj_H} (hK : uK sy pa pb lk w h) {s m v : Nat} (hs : inSy sy s) (h1 : srO sy s = 1) (hz : s < 200 → szO sy s < lk.length) (hm : m < 16) {D : Nat} : ∃ h', mj_R mg (D + 2) mq_115 (0, [(0, vR 8 0), (1, vI (nI s)), (2, vI (nI m)), (3, vI (nI v))], [], h) = some (.inl (none, h')) ∧ gL h h' ∧ h'.1 8 0 7 = mnL (h.1 8 0 7) (if wok sy lk w s m = false then [v] else []) := sorry
end

