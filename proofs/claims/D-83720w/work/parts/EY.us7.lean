/-! the component's uses: calls -/
def wob (sy : List Sym) (lk : List (Nat × Nat)) (w : Option Nat) (s m : Nat) : Bool := decide (srO sy s = 1 ∧ m ≠ 0 ∧ wok sy lk w s m = false)
theorem wof_b (sy : List Sym) (lk : List (Nat × Nat)) (w : Option Nat) (u s m : Nat) : wof sy lk w u s m = agB (wob sy lk w s m) u := sorry
def wbA (sy : List Sym) (pb : Nat → Nat) (lk : List (Nat × Nat)) (w : Option Nat) : List Nat → Tm → Bool
  | q :: qs, .elem a as => (if srO sy q = 3 then false else wob sy lk w (nmT a) (pb q)) || wbA sy pb lk w qs as
  | _, _ => false
theorem wfA_b (sy : List Sym) (pb : Nat → Nat) (lk : List (Nat × Nat)) (w : Option Nat) (u : Nat) : ∀ (qs : List Nat) (as : Tm) (l : Int32), mnL l (wfA_o sy pb lk w u qs as) = mnL l (agB (wbA sy pb lk w qs as) u) := sorry
def prXs : List (Ky × Nat × Bool) → List (Ky × Nat × Bool) → Bool
  | _, [] => false
  | G, y :: r => G.any (fun x => ao1 x y) || prXs (G ++ [y]) r
theorem any_or {α : Type} (L : List α) (f g : α → Bool) : (L.any fun x => f x || g x) = (L.any f || L.any g) := sorry
theorem prXs_s : ∀ (L G : List (Ky × Nat × Bool)), prXs G L = ((G.any fun x => L.any (ao1 x)) || prs L) := sorry
def exA (kp : Nat → Bool) (sy : List Sym) (r : Nat → Int32) : List Nat → Tm → List Ev
  | q :: qs, .elem a as => (if srO sy q = 3 then evE kp sy r a else ixE kp sy r a) ++ exA kp sy r qs as
  | _, _ => []
def gkE (G : List (Ky × Nat × Bool)) : List Ev := G.map fun g => (g.1, g.2.1)
theorem wfA_nil {sy : List Sym} {vis : List Nat} {as : Tm} (w : wfA sy vis [] as) : as = .null := sorry
theorem wfA_cons {sy : List Sym} {vis : List Nat} {q : Nat} {qs : List Nat} {as : Tm} (w : wfA sy vis (q :: qs) as) : ∃ a r, as = .elem a r ∧ True := sorry
theorem wfA_R {sy : List Sym} {vis : List Nat} {q : Nat} {qs : List Nat} {a as : Tm} (w : wfA sy vis (q :: qs) (.elem a as)) : (srO sy q = 3 ∧ wfX sy vis a) ∨ (srO sy q ≠ 3 ∧ wfR sy vis a) := sorry
section
variable {sy : List Sym} {pa : List (List Nat)} {pb : Nat → Nat} {lk : List (Nat × Nat)} {w : Option Nat} {vis : List Nat} {r : Nat → Int32} {u lo hi : Nat} {pre : List Ev}
theorem u_given {D : Nat} {x4 x3 x2 : Int32} : ∀ (L G : List (Ky × Nat × Bool)) (E : List Ev) (h : mj_H), givH h (G ++ L) → (G ++ L).length ≤ 6 → uS pre E h → pre.length + nk (E ++ gkE L) ≤ 20000 →
    mP (mj_R mg (D + 1) mq_123 (192, [(6, vI (nI G.length)), (5, vI (nI (G ++ L).length)), (4, vI x4), (3, vI x3), (0, vR 8 0), (1, vI (nI pre.length)), (2, vI x2)], [], h)) (fun v h' => v = none ∧ gX h h' ∧ uS pre (E ++ gkE L) h' ∧ h'.1 8 0 7 = h.1 8 0 7) := sorry
theorem u_pairs {D n k8 c : Nat} {x7 x4 x3 x1 : Int32} {a : Nat} {G : List (Ky × Nat × Bool)} {y : Ky × Nat × Bool} {Q : Option mj_V → mj_H → Prop} (hG : G.length = n) (hn : n < 6) (h8 : y.2.2 = (k8 == 8)) (ha : a < 3100) (hc : c < 3100) : ∀ (L G1 : List (Ky × Nat × Bool)) (h : mj_H), G = G1 ++ L → givH h (G ++ [y]) → h.1 28 0 c = nI u →
    (∀ h1, gL h h1 → h1.1 8 0 7 = mnL (h.1 8 0 7) (agB (L.any fun x => ao1 x y) u) → mP (mj_R mg (D + 2) mq_123 (27, [(6, vI (h1.1 27 0 a)), (5, vI (nI (n + 1))), (4, vI (x4 + 1)), (3, vI x3), (0, vR 8 0), (1, vI x1), (2, vI (nI c))], [], h1)) Q) →
    mP (mj_R mg (D + 2) mq_123 (118, [(9, vI (nI G1.length)), (8, vR 18 k8), (7, vI x7), (6, vI (nI a)), (5, vI (nI n)), (4, vI x4), (3, vI x3), (0, vR 8 0), (1, vI x1), (2, vI (nI c))], [], h)) Q := sorry
theorem u_call1 {p c : Nat} (hh : hi ≤ 3100) (hv : vOK sy lk vis) (hp : p < pa.length) (hc : c < 3100) {D : Nat} (hD : 70 ≤ D) : ∀ (as : Tm) (qs : List Nat) (G : List (Ky × Nat × Bool)) (E : List Ev) (k : Nat) (x : Int32) (h : mj_H), wfA sy vis qs as → rAs u lo hi h as x → (pa.getD p []).drop k = qs → G.length ≤ k → k ≤ 6 → h.1 28 0 c = nI u → givH h G → uK sy pa pb lk w h → cK sy vis r h → uS pre E h → pre.length + nk (E ++ (exA (kpC sy) sy r qs as ++ gkE (G ++ gvA sy pb r qs as))) ≤ 20000 →
    mP (mj_R mg (D + 2) mq_123 (27, [(6, vI x), (5, vI (nI G.length)), (4, vI (nI k)), (3, vI (nI p)), (0, vR 8 0), (1, vI (nI pre.length)), (2, vI (nI c))], [], h)) (fun v h' => v = none ∧ gY 0 h h' ∧ uS pre (E ++ (exA (kpC sy) sy r qs as ++ gkE (G ++ gvA sy pb r qs as))) h' ∧ h'.1 8 0 7 = mnL (h.1 8 0 7) (agB (wbA sy pb lk w qs as || prXs G (gvA sy pb r qs as)) u)) := sorry
theorem evA_eq : ∀ (qs : List Nat) (as : Tm), wfA sy vis qs as → (∀ k, k ∈ kys (evA (kpC sy) sy pb r qs as) ↔ k ∈ kys (exA (kpC sy) sy r qs as ++ gkE (gvA sy pb r qs as))) ∧ ∀ k, orm (evA (kpC sy) sy pb r qs as) k = orm (exA (kpC sy) sy r qs as ++ gkE (gvA sy pb r qs as)) k := sorry
theorem nk_cg {E F : List Ev} (h : ∀ k, k ∈ kys E ↔ k ∈ kys F) : nk E = nk F := sorry
theorem u_call {p c x : Nat} {as : Tm} {E : List Ev} {h : mj_H} (hh : hi ≤ 3100) (hK : uK sy pa pb lk w h) (hv : vOK sy lk vis) (hcK : cK sy vis r h) (hp : p < pa.length) (b : rN u lo hi h c x) (b26 : h.1 26 0 c = nI p) (bA : rAs u lo hi h as (h.1 23 0 c)) (wf : wfA sy vis (pa.getD p []) as) (s : uS pre E h) (hl : pre.length + nk (E ++ evA (kpC sy) sy pb r (pa.getD p []) as) ≤ 20000) {D : Nat} (hD : 80 ≤ D) : mP (mj_R mg D mq_123 (0, [(0, vR 8 0), (1, vI (nI pre.length)), (2, vI (nI c))], [], h)) (fun v h' => v = none ∧ gY 0 h h' ∧ uS pre (E ++ evA (kpC sy) sy pb r (pa.getD p []) as) h' ∧ h'.1 8 0 7 = mnL (h.1 8 0 7) (wfA_o sy pb lk w u (pa.getD p []) as ++ (if prs (gvA sy pb r (pa.getD p []) as) then [u] else []))) := sorry
end

