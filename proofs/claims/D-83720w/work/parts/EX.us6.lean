/-! the component's uses: calls -/
def givH (h : mj_H) (G : List (Ky × Nat × Bool)) : Prop := ∀ i x, G[i]? = some x → h.1 54 0 i = nI x.1.1 ∧ h.1 55 0 i = bI x.1.2.1 ∧ h.1 56 0 i = x.1.2.2 ∧ h.1 57 0 i = nI x.2.1 ∧ okEv (x.1, x.2.1)
def gY (n : Nat) (h h' : mj_H) : Prop := (∀ g i j, ¬ ((g = 8 ∧ (j = 5 ∨ j = 7)) ∨ (49 ≤ g ∧ g ≤ 52) ∨ (54 ≤ g ∧ g ≤ 57 ∧ n ≤ j)) → h'.1 g i j = h.1 g i j) ∧ h'.2 = h.2
theorem gY.rf (n : Nat) (h : mj_H) : gY n h h := sorry
theorem gY.tr {n : Nat} {h h1 h2 : mj_H} (a : gY n h h1) (b : gY n h1 h2) : gY n h h2 := sorry
theorem gX.y {n : Nat} {h h' : mj_H} (x : gX h h') : gY n h h' := sorry
theorem gY.v {n a b : Nat} {h h' : mj_H} (x : gY n h h') : gV a b h h' := sorry
theorem gY.le {n m : Nat} {h h' : mj_H} (x : gY n h h') (hm : m ≤ n) : gY m h h' := sorry
theorem cK.mvY {n : Nat} {sy : List Sym} {vis : List Nat} {r : Nat → Int32} {h h' : mj_H} (a : cK sy vis r h) (f : gY n h h') : cK sy vis r h' := sorry
theorem givH.mv {n : Nat} {h h' : mj_H} {G : List (Ky × Nat × Bool)} (a : givH h G) (f : gY n h h') (hn : G.length ≤ n) : givH h' G := sorry
theorem UR.mvG {h h' : mj_H} {S : List Ev} (a : UR h S) (f : ∀ g i j, ¬ (54 ≤ g ∧ g ≤ 57) → h'.1 g i j = h.1 g i j) : UR h' S := sorry
theorem uS.mvG {pre E : List Ev} {h h' : mj_H} (a : uS pre E h) (f : ∀ g i j, ¬ (54 ≤ g ∧ g ≤ 57) → h'.1 g i j = h.1 g i j) : uS pre E h' := sorry
def ixE (kp : Nat → Bool) (sy : List Sym) (r : Nat → Int32) : Tm → List Ev
  | .elem (.arg _) e => evE kp sy r e
  | _ => []
section
variable {sy : List Sym} {pa : List (List Nat)} {pb : Nat → Nat} {lk : List (Nat × Nat)} {w : Option Nat} {vis : List Nat} {r : Nat → Int32} {u lo hi : Nat} {pre E : List Ev}
theorem u_arr {D n k6 : Nat} {x5 x1 x2 x4 : Int32} {h : mj_H} (hn : n < 6) {Q : Option mj_V → mj_H → Prop} (K : mP (mj_R mg (D + 1) mq_124 (65, [(6, vR 18 k6), (5, vI x5), (0, vR 8 0), (1, vI x1), (2, vI x2), (3, vI (nI n)), (4, vI x4)], [vI (bI (arrS k6)), vI (nI n), vR 55 0], h)) Q) : mP (mj_xi (mj_R mg D mq_57 (0, [(0, vR 18 k6)], [], h)) (fun r1 h1 => (if ¬ r1 = 0 then mj_R mg (D + 1) mq_124 (60, [(6, vR 18 k6), (5, vI x5), (0, vR 8 0), (1, vI x1), (2, vI x2), (3, vI (nI n)), (4, vI x4)], [vI (nI n), vR 55 0], h1) else (if k6 = 9 then mj_R mg (D + 1) mq_124 (60, [(6, vR 18 k6), (5, vI x5), (0, vR 8 0), (1, vI x1), (2, vI x2), (3, vI (nI n)), (4, vI x4)], [vI (nI n), vR 55 0], h1) else mj_R mg (D + 1) mq_124 (65, [(6, vR 18 k6), (5, vI x5), (0, vR 8 0), (1, vI x1), (2, vI x2), (3, vI (nI n)), (4, vI x4)], [vI 0, vI (nI n), vR 55 0], h1))))) Q := sorry
/-- the parts of an argument that is no value -/
def wfR (sy : List Sym) (vis : List Nat) (a : Tm) : Prop := (∃ s, a = .arg s ∧ s ∈ vis ∧ kepS (srO sy s) = true) ∨ ∃ s e, a = .elem (.arg s) e ∧ s ∈ vis ∧ srO sy s ≠ 1 ∧ wfX sy vis e
theorem u_argument {h : mj_H} (hh : hi ≤ 3100) (hK : uK sy pa pb lk w h) (hv : vOK sy lk vis) (hc : cK sy vis r h) {k m n : Nat} {a : Tm} (wa : wfR sy vis a) (b : rE u lo hi h a k) (s0 : uS pre E h) (hm : m < 16) (hn : n < 6) (hl : pre.length + nk (E ++ ixE (kpC sy) sy r a) ≤ 20000) {D : Nat} (hD : 65 ≤ D) : mP (mj_R mg D mq_124 (0, [(0, vR 8 0), (1, vI (nI pre.length)), (2, vI (nI k)), (3, vI (nI n)), (4, vI (nI m))], [], h)) (fun v h' => v = none ∧ gY n h h' ∧ uS pre (E ++ ixE (kpC sy) sy r a) h' ∧ (h'.1 54 0 n = nI (kyT sy r a).1 ∧ h'.1 55 0 n = bI (kyT sy r a).2.1 ∧ h'.1 56 0 n = (kyT sy r a).2.2 ∧ h'.1 57 0 n = nI m ∧ okEv (kyT sy r a, m)) ∧ h'.1 8 0 7 = mnL (h.1 8 0 7) (wof sy lk w u (nmT a) m)) := sorry
theorem u_areOne {D o k : Nat} {h : mj_H} {G : List (Ky × Nat × Bool)} {x y : Ky × Nat × Bool} (g : givH h G) (hx : G[o]? = some x) (hy : G[k]? = some y) (hG : G.length ≤ 6) : mj_R mg D mq_125 (0, [(0, vR 8 0), (1, vI (nI o)), (2, vI (nI k)), (3, vI (bI y.2.2))], [], h) = some (.inl (some (vI (bI (ao1 x y))), h)) := sorry
end

