/-! the component's uses: clashes, joining, leaving -/
def rowH (h : mj_H) (k : Nat) (e : Ev) : Prop := h.1 49 0 k = nI e.1.1 ∧ h.1 52 0 k = bI e.1.2.1 ∧ h.1 50 0 k = e.1.2.2 ∧ h.1 51 0 k = nI e.2 ∧ okEv e
theorem nI_b2 : ∀ a b : Fin 16, ((nI a.1 &&& nI b.1) &&& 12 = 0 ↔ a.1 &&& b.1 &&& 12 = 0) := sorry
theorem u_meet {D k o : Nat} {h : mj_H} {x y : Ev} (hx : rowH h k x) (hy : rowH h o y) (hk : k < 20000) (ho : o < 20000) : mj_R mg D mq_117 (0, [(0, vR 8 0), (1, vI (nI k)), (2, vI (nI o))], [], h) = some (.inl (some (vI (bI (mtK x.1 y.1))), h)) := sorry
theorem u_clash {D k o : Nat} {h : mj_H} {x y : Ev} (hx : rowH h k x) (hy : rowH h o y) (hk : k < 20000) (ho : o < 20000) : mj_R mg (D + 1) mq_118 (0, [(0, vR 8 0), (1, vI (nI k)), (2, vI (nI o))], [], h) = some (.inl (some (vI (bI (mtK x.1 y.1 && mcl x.2 y.2))), h)) := sorry
theorem mnI_twice {l x : Int32} : mnI (mnI l x) x = mnI l x := sorry
def agB (b : Bool) (u : Nat) : List Nat := if b then [u] else []
theorem mnL_ag (l : Int32) (a b : Bool) (u : Nat) : mnL (mnL l (agB a u)) (agB b u) = mnL l (agB (a || b) u) := sorry
theorem rowH.mv {h h' : mj_H} {k : Nat} {e : Ev} (a : rowH h k e) (f : gL h h') : rowH h' k e := sorry
theorem UR.row {h : mj_H} {P S : List Ev} {x : Ev} (a : UR h (P ++ x :: S)) : rowH h P.length x := sorry
theorem gL.rf (h : mj_H) : gL h h := sorry
theorem gL.tr {h h1 h2 : mj_H} (a : gL h h1) (b : gL h1 h2) : gL h h2 := sorry
/-- one row against those from x1 on -/
theorem u_join1 {D u k : Nat} {x : Ev} {T : Int32} (hk : k < 20000) {x1 : Int32} {Q : Option mj_V → mj_H → Prop} : ∀ (S P : List Ev) (h : mj_H), rowH h k x → (∀ j y, S[j]? = some y → rowH h (P.length + j) y) → (P ++ S).length ≤ 20000 →
    (∀ h1, gL h h1 → h1.1 8 0 7 = mnL (h.1 8 0 7) (agB (S.any fun b => mtK x.1 b.1 && mcl x.2 b.2) u) → mP (mj_R mg (D + 2) mq_119 (9, [(6, vI (nI (k + 1))), (7, vI (nI (P ++ S).length)), (5, vI T), (0, vR 8 0), (1, vI x1), (2, vI (nI (P ++ S).length)), (3, vI (nI u)), (4, vI 1)], [], h1)) Q) →
    mP (mj_R mg (D + 2) mq_119 (24, [(7, vI (nI P.length)), (6, vI (nI k)), (5, vI T), (0, vR 8 0), (1, vI x1), (2, vI (nI (P ++ S).length)), (3, vI (nI u)), (4, vI 1)], [], h)) Q := sorry
/-- all rows from own on against those between -/
theorem u_join2 {D u : Nat} {pre S : List Ev} {Q : Option mj_V → mj_H → Prop} : ∀ (T P : List Ev) (x7 : Int32) (h : mj_H), UR h (P ++ T) → (∀ j y, S[j]? = some y → rowH h (pre.length + j) y) → (pre ++ S).length ≤ 20000 →
    (∀ h1 x6 x7, gL h h1 → h1.1 8 0 7 = mnL (h.1 8 0 7) (agB (T.any fun a => S.any fun b => mtK a.1 b.1 && mcl a.2 b.2) u) → mP (mj_R mg (D + 2) mq_119 (58, [(6, vI x6), (7, vI x7), (5, vI (nI (P ++ T).length)), (0, vR 8 0), (1, vI (nI pre.length)), (2, vI (nI (pre ++ S).length)), (3, vI (nI u)), (4, vI 1)], [], h1)) Q) →
    mP (mj_R mg (D + 2) mq_119 (9, [(6, vI (nI P.length)), (7, vI x7), (5, vI (nI (P ++ T).length)), (0, vR 8 0), (1, vI (nI pre.length)), (2, vI (nI (pre ++ S).length)), (3, vI (nI u)), (4, vI 1)], [], h)) Q := sorry
/-- the rows from own on are joined -/
theorem u_copy {D : Nat} {pre : List Ev} {x2 x3 x4 x7 : Int32} : ∀ (T S : List Ev) (k : Nat) (h : mj_H), UR h (pre ++ S) → (∀ j y, T[j]? = some y → rowH h (k + j) y) → (pre ++ S).length ≤ k → k + T.length ≤ 20000 →
    mP (mj_R mg (D + 2) mq_119 (66, [(6, vI (nI k)), (7, vI x7),(5, vI (nI (k + T.length))), (0, vR 8 0), (1, vI (nI pre.length)), (2, vI x2), (3, vI x3), (4, vI x4)], [], h)) (fun v h' => v = none ∧ gUr (k + T.length) h h' ∧ UR h' (pre ++ T.foldl useL S)) := sorry
/-- the rows from own on are joined -/
theorem u_copy0 {D : Nat} {pre : List Ev} {x2 x3 x4 x7 : Int32} : ∀ (T S : List Ev) (k : Nat) (h : mj_H), UR h (pre ++ S) → (∀ j y, T[j]? = some y → rowH h (k + j) y) → (pre ++ S).length ≤ k → k + T.length ≤ 20000 →
    mP (mj_R mg (D + 2) mq_119 (66, [(6, vI (nI k)), (5, vI (nI (k + T.length))), (0, vR 8 0), (1, vI (nI pre.length)), (2, vI x2), (3, vI x3), (4, vI x4)], [], h)) (fun v h' => v = none ∧ gUr (k + T.length) h h' ∧ UR h' (pre ++ T.foldl useL S)) := sorry
theorem UR.cut {h : mj_H} {P T : List Ev} {v : Int32} (a : UR h (P ++ T)) (hv : v = nI P.length) : UR (mj_sI h 8 0 5 v) P ∧ gUr 0 h (mj_sI h 8 0 5 v) ∧ ∀ j y, T[j]? = some y → rowH (mj_sI h 8 0 5 v) (P.length + j) y := sorry
theorem any_cls {S T E F : List Ev} (h1 : seg T F) (h2 : seg S E) : (T.any fun a => S.any fun b => mtK a.1 b.1 && mcl a.2 b.2) = cls (fun _ => true) F E := sorry
/-- joined, with clashes told -/
theorem u_joinT {D u : Nat} {pre A F : List Ev} {h : mj_H} (a : ∃ S T, UR h (pre ++ S ++ T) ∧ seg S A ∧ seg T F) (hu : (nk A : Nat) = nk A) : mP (mj_R mg (D + 2) mq_119 (0, [(0, vR 8 0), (1, vI (nI pre.length)), (2, vI (nI (pre.length + nk A))), (3, vI (nI u)), (4, vI 1)], [], h)) (fun v h' => v = none ∧ gX h h' ∧ uS pre (A ++ F) h' ∧ h'.1 8 0 7 = mnL (h.1 8 0 7) (agB (cls (fun _ => true) F A) u)) := sorry
/-- joined -/
theorem u_joinF {D : Nat} {pre A F : List Ev} {h : mj_H} (a : ∃ S T, UR h (pre ++ S ++ T) ∧ seg S A ∧ seg T F) : mP (mj_R mg (D + 2) mq_119 (0, [(0, vR 8 0), (1, vI (nI pre.length)), (2, vI (nI (pre.length + nk A))), (3, vI 0), (4, vI 0)], [], h)) (fun v h' => v = none ∧ gX h h' ∧ uS pre (A ++ F) h' ∧ h'.1 8 0 7 = h.1 8 0 7) := sorry
/-- names of a declaration leave -/
theorem u_leave1 {D f c : Nat} {x1 : Int32} (hfc : f + c < 1000) : ∀ (T P : List Ev) (k : Nat) (h : mj_H), (∀ j y, P[j]? = some y → rowH h j y) → (∀ j y, T[j]? = some y → rowH h (k + j) y) → P.length ≤ k → k + T.length ≤ 20000 → h.1 8 0 5 = nI (k + T.length) →
    mP (mj_R mg D mq_120 (6, [(5, vI (nI k)), (4, vI (nI P.length)), (0, vR 8 0), (1, vI x1), (2, vI (nI f)), (3, vI (nI c))], [], h)) (fun v h' => v = none ∧ gUr 20000 h h' ∧ UR h' (P ++ flN (fun t => decide (t < f) || decide (f + c ≤ t)) T)) := sorry
theorem u_leave {D f c : Nat} {pre E : List Ev} {h : mj_H} (hfc : f + c < 1000) (a : uS pre E h) : mP (mj_R mg D mq_120 (0, [(0, vR 8 0), (1, vI (nI pre.length)), (2, vI (nI f)), (3, vI (nI c))], [], h)) (fun v h' => v = none ∧ gX h h' ∧ uS pre (flN (fun t => decide (t < f) || decide (f + c ≤ t)) E) h' ∧ h'.1 8 0 7 = h.1 8 0 7) := sorry
