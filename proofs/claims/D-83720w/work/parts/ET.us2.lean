/-! the component's uses: rows -/
def okEv (e : Ev) : Prop := e.1.1 < 202 ∧ e.2 < 16 ∧ (e.1.2.1 = true → e.1.2.2 = 0)
def UR (h : mj_H) (S : List Ev) : Prop := h.1 8 0 5 = nI S.length ∧ S.length ≤ 20000 ∧ ∀ k e, S[k]? = some e → h.1 49 0 k = nI e.1.1 ∧ h.1 52 0 k = bI e.1.2.1 ∧ h.1 50 0 k = e.1.2.2 ∧ h.1 51 0 k = nI e.2 ∧ okEv e
/-- rows alone change -/
def gUr (N : Nat) (h h' : mj_H) : Prop := (∀ g i j, ¬ ((g = 8 ∧ j = 5) ∨ (49 ≤ g ∧ g ≤ 52 ∧ j < N)) → h'.1 g i j = h.1 g i j) ∧ h'.2 = h.2
theorem gUr.rf (N : Nat) (h : mj_H) : gUr N h h := sorry
theorem gUr.tr {N : Nat} {h h1 h2 : mj_H} (a : gUr N h h1) (b : gUr N h1 h2) : gUr N h h2 := sorry
theorem gUr.le {N N' : Nat} {h h' : mj_H} (x : gUr N h h') (hn : N ≤ N') : gUr N' h h' := sorry
/-- rows, the line, constants from a up to b, what is given -/
def gV (a b : Nat) (h h' : mj_H) : Prop := (∀ g i j, ¬ ((g = 8 ∧ (j = 5 ∨ j = 7)) ∨ (49 ≤ g ∧ g ≤ 52) ∨ (g = 53 ∧ a ≤ j ∧ j < b) ∨ (54 ≤ g ∧ g ≤ 57)) → h'.1 g i j = h.1 g i j) ∧ h'.2 = h.2
theorem gV.rf (a b : Nat) (h : mj_H) : gV a b h h := sorry
theorem gV.tr {a b : Nat} {h h1 h2 : mj_H} (x : gV a b h h1) (y : gV a b h1 h2) : gV a b h h2 := sorry
theorem gV.le {a b a' b' : Nat} {h h' : mj_H} (x : gV a b h h') (ha : a' ≤ a) (hb : b ≤ b') : gV a' b' h h' := sorry
theorem gUr.v {a b N : Nat} {h h' : mj_H} (x : gUr N h h') : gV a b h h' := sorry
theorem gUr.l {N : Nat} {h h' : mj_H} (x : gUr N h h') : h'.1 8 0 7 = h.1 8 0 7 := sorry
theorem bI_inj {a b : Bool} : bI a = bI b ↔ a = b := sorry
theorem bI_and1 (b : Bool) : bI b &&& 1 = bI b := sorry
theorem nI_or16 : ∀ a b : Fin 16, nI a.1 ||| nI b.1 = nI (a.1 ||| b.1) ∧ a.1 ||| b.1 < 16 := sorry
theorem nI_or {a b : Nat} (ha : a < 16) (hb : b < 16) : nI a ||| nI b = nI (a ||| b) ∧ a ||| b < 16 := sorry
theorem okEv.key {x e : Ev} (hx : okEv x) (he : okEv e) (h1 : x.1.1 = e.1.1) (h2 : x.1.2.1 = e.1.2.1) (h3 : e.1.2.1 = true ∨ x.1.2.2 = e.1.2.2) : x.1 = e.1 := sorry
theorem UR.at {h : mj_H} {P S : List Ev} {x : Ev} (a : UR h (P ++ x :: S)) : h.1 49 0 P.length = nI x.1.1 ∧ h.1 52 0 P.length = bI x.1.2.1 ∧ h.1 50 0 P.length = x.1.2.2 ∧ h.1 51 0 P.length = nI x.2 ∧ okEv x := sorry
theorem UR.push {h : mj_H} {P : List Ev} {e : Ev} (a : UR h P) (he : okEv e) (hl : P.length + 1 ≤ 20000) : UR (mj_sI (mj_sI (mj_sI (mj_sI (mj_sI h 49 0 P.length (nI e.1.1)) 52 0 P.length (bI e.1.2.1)) 50 0 P.length e.1.2.2) 51 0 P.length (nI e.2)) 8 0 5 (nI (P.length + 1))) (P ++ [e]) := sorry
theorem UR.upd {h : mj_H} {P S : List Ev} {x : Ev} {m : Nat} (a : UR h (P ++ x :: S)) (hm : m < 16) : UR (mj_sI h 51 0 P.length (nI m)) (P ++ (x.1, m) :: S) := sorry
theorem u_use1 {D : Nat} {e : Ev} (he : okEv e) : ∀ (S P : List Ev) (h : mj_H) (x1 : Int32), UR h (P ++ S) → (P ++ useL S e).length ≤ 20000 → mP (mj_R mg D mq_111 (3, [(6, vI (nI P.length)), (0, vR 8 0), (1, vI x1), (2, vI (nI e.1.1)), (3, vI (bI e.1.2.1)), (4, vI e.1.2.2), (5, vI (nI e.2))], [], h)) (fun v h' => v = none ∧ gUr (P ++ useL S e).length h h' ∧ UR h' (P ++ useL S e)) := sorry
/-- rows: those before, and a row of uses from there on -/
def uS (pre E : List Ev) (h : mj_H) : Prop := ∃ S, UR h (pre ++ S) ∧ seg S E
theorem uS.cnt {pre E : List Ev} {h : mj_H} (a : uS pre E h) : h.1 8 0 5 = nI (pre.length + nk E) ∧ pre.length + nk E ≤ 20000 := sorry
theorem u_use {D : Nat} {pre E : List Ev} {e : Ev} {h : mj_H} (a : uS pre E h) (he : okEv e) (hl : pre.length + nk (E ++ [e]) ≤ 20000) : mP (mj_R mg D mq_111 (0, [(0, vR 8 0), (1, vI (nI pre.length)), (2, vI (nI e.1.1)), (3, vI (bI e.1.2.1)), (4, vI e.1.2.2), (5, vI (nI e.2))], [], h)) (fun v h' => v = none ∧ gUr (pre.length + nk (E ++ [e])) h h' ∧ uS pre (E ++ [e]) h') := sorry
/-- the line that is told -/
def gL (h h' : mj_H) : Prop := (∀ g i j, ¬ (g = 8 ∧ j = 7) → h'.1 g i j = h.1 g i j) ∧ h'.2 = h.2
theorem gL.v {a b : Nat} {h h' : mj_H} (x : gL h h') : gV a b h h' := sorry
theorem UR.mvL {h h' : mj_H} {S : List Ev} (a : UR h S) (f : gL h h') : UR h' S := sorry
theorem uS.mvL {pre E : List Ev} {h h' : mj_H} (a : uS pre E h) (f : gL h h') : uS pre E h' := sorry
/-- told lines: none, or from 0 on -/
def lnOK (l : Int32) : Prop := l = -1 ∨ ∃ n, l = nI n ∧ n < 100000
theorem mnI_ok {l : Int32} {u : Nat} (h : lnOK l) (hu : u < 100000) : lnOK (mnI l (nI u)) := sorry
theorem mnL_ok {l : Int32} {L : List Nat} (h : lnOK l) (hu : ∀ u ∈ L, u < 100000) : lnOK (mnL l L) := sorry
theorem m_min {a b : Int32} {d : Nat} {h : mj_H} : mj_R mg d mq_367 (0, [(0, vI a), (1, vI b)], [], h) = some (.inl (some (vI (if a ≤ b then a else b)), h)) := sorry
theorem u_against {D : Nat} {h : mj_H} {u : Int32} : mj_R mg (D + 1) mq_110 (0, [(0, vR 8 0), (1, vI u)], [], h) = some (.inl (none, mj_sI h 8 0 7 (mnI (h.1 8 0 7) u))) := sorry
theorem gL_set {h : mj_H} {v : Int32} : gL h (mj_sI h 8 0 7 v) := sorry
