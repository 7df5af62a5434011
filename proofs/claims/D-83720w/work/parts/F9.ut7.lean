/-! the twin's uses: calls -/
def chS (k : Nat) : Bool := sChn k || k == 9
def wfRa (sy : List Sym) (vis : List Nat) (q : Nat) (a : Tm) : Prop := (∃ s, a = .arg s ∧ s ∈ vis ∧ chS (srO sy s) = (srO sy q == 8)) ∨ ∃ s e, a = .elem (.arg s) e ∧ s ∈ vis ∧ arrS (srO sy s) = true ∧ wfX sy vis e ∧ chS (srO sy s) = (srO sy q == 8)
section
variable {sy : List Sym} {pa : List (List Nat)} {pb : Nat → Nat} {lk : List (Nat × Nat)} {pr : Option Nat} {vis : List Nat} {r : Nat → Int32} {u : Nat}
theorem wfA_Ra {q : Nat} {qs : List Nat} {a as : Tm} (w : wfA sy vis (q :: qs) (.elem a as)) (hq : prm (srO sy q)) (h3 : srO sy q ≠ 3) : wfRa sy vis q a := sorry
theorem wfRa.nm {q : Nat} {a : Tm} (w : wfRa sy vis q a) : nmT a ∈ vis ∧ chS (srO sy (nmT a)) = (srO sy q == 8) ∧ (kyT sy r a).1 = nmT a := sorry
theorem tE_nm {q lo hi k : Nat} {h : mj_H} {a : Tm} (w : wfRa sy vis q a) (b : tE u lo hi h a k) : h.1 89 0 k = nI (tw (nmT a)) ∧ (lo ≤ k ∧ k < hi) ∧ ((∃ s, a = .arg s) ∧ h.1 87 0 k = nI 2 ∨ (∃ s e, a = .elem (.arg s) e) ∧ h.1 87 0 k = nI 3) := sorry
theorem t_meet {D q1 q2 lo1 hi1 lo2 hi2 i j : Nat} {x y : Tm} {h : mj_H} (hh1 : hi1 ≤ 7000) (hh2 : hi2 ≤ 7000) (hK : tUK sy pa pb lk pr h) (hv : vOK sy lk vis) (hc : tcK sy vis r h) (wx : wfRa sy vis q1 x) (wy : wfRa sy vis q2 y) (bx : tE u lo1 hi1 h x i) (by' : tE u lo2 hi2 h y j) : mj_R mg (D + 3) mq_291 (0, [(0, vR 15 0), (1, vI (nI i)), (2, vI (nI j))], [], h) = some (.inl (some (vI (bI (mtK (kyT sy r x) (kyT sy r y)))), h)) := sorry
theorem and3 : ∀ a : Fin 16, nI a.1 &&& 3 = nI (a.1 &&& 3) ∧ a.1 &&& 3 < 16 := sorry
theorem wrt3 : ∀ a b : Fin 16, mcl (a.1 &&& 3) (b.1 &&& 3) = wrt a.1 b.1 := sorry
/-- the arguments behind one -/
theorem t_inr {D n ka p q lo0 hi0 ja : Nat} {aa : Tm} (hv : vOK sy lk vis) (hp : p < pa.length) (hP : ∀ q, q ∈ pa.getD p [] → prm (srO sy q)) (hq : q ∈ pa.getD p []) (hq3 : srO sy q ≠ 3) (wa : wfRa sy vis q aa) (hka : ka < 7000) (hn : n < 7000) (hh0 : hi0 ≤ 7000) {Q : Option mj_V → mj_H → Prop} : ∀ (qs : List Nat) (as : Tm) (x : Int32) (lo hi : Nat) (h : mj_H), wfA sy vis qs as → tAs u lo hi h qs as x → (∀ q, q ∈ qs → q ∈ pa.getD p []) → 1 ≤ lo → hi ≤ 7000 → tUK sy pa pb lk pr h → tcK sy vis r h → h.1 88 0 n = nI u → h.1 89 0 ka = nI ja → h.1 90 0 ka = nI (tw q) → tE u lo0 hi0 h aa ja →
    (∀ h1, gTv 0 0 h h1 → h1.1 15 0 67 = mnL (h.1 15 0 67) (agB ((gvA sy pb r qs as).any (ao1 (kyT sy r aa, pb q, srO sy q == 8))) u) → mP (mj_R mg (D + 4) mq_290 (7, [(2, vI (h1.1 94 0 ka)), (0, vR 15 0), (1, vI (nI n))], [], h1)) Q) →
    mP (mj_R mg (D + 4) mq_290 (78, [(4, vI x), (3, vI (nI (kdS sy q))), (2, vI (nI ka)), (0, vR 15 0), (1, vI (nI n))], [], h)) Q := sorry
/-- a call -/
theorem t_ccall {D n p : Nat} (hv : vOK sy lk vis) (hp : p < pa.length) (hP : ∀ q, q ∈ pa.getD p [] → prm (srO sy q)) (hB : ∀ q, q ∈ pa.getD p [] → srO sy q = 8 → pb q &&& 3 = 0) (hn : n < 7000) : ∀ (qs : List Nat) (as : Tm) (x : Int32) (lo hi : Nat) (h : mj_H), wfA sy vis qs as → tAs u lo hi h qs as x → (∀ q, q ∈ qs → q ∈ pa.getD p []) → 1 ≤ lo → hi ≤ 7000 → tUK sy pa pb lk pr h → tcK sy vis r h → h.1 88 0 n = nI u →
    mP (mj_R mg (D + 4) mq_290 (7, [(2, vI x), (0, vR 15 0), (1, vI (nI n))], [], h)) (fun v h' => v = none ∧ gTv 0 0 h h' ∧ h'.1 15 0 67 = mnL (h.1 15 0 67) (agB (wbA sy pb lk pr qs as || prs (gvA sy pb r qs as)) u)) := sorry
end

