/-! the twin's lexer: lines -/
def lvI (i : Nat) : Int32 := bif oddI i then -1 else nI (i / 2)
def TLs (h : mj_H) (L : List Lin) : Prop := h.1 15 0 3 = nI L.length ∧ ∀ k x, L[k]? = some x → h.1 73 0 k = nI x.1 ∧ h.1 74 0 k = nI x.2.1 ∧ h.1 75 0 k = nI x.2.2.1 ∧ h.1 76 0 k = nI x.2.2.2 ∧ h.1 77 0 k = lvI (x.2.2.1 - x.2.1)
def fF (h h' : mj_H) : Prop := (∀ g i j, ¬ ((g = 15 ∧ j = 3) ∨ (73 ≤ g ∧ g ≤ 77)) → h'.1 g i j = h.1 g i j) ∧ h'.2 = h.2
theorem fF.rf (h : mj_H) : fF h h := sorry
theorem fF.tr {h h1 h2 : mj_H} (a : fF h h1) (b : fF h1 h2) : fF h h2 := sorry
theorem TT.fl {t : Nat → Nat} {n : Nat} {h h' : mj_H} (a : TT t n h) (f : fF h h') : TT t n h' := sorry
/-- one more line in the rows -/
def adL (h : mj_H) (m : Nat) (x : Lin) : mj_H := mj_sI (mj_sI (mj_sI (mj_sI (mj_sI (mj_sI h 73 0 m (nI x.1)) 74 0 m (nI x.2.1)) 75 0 m (nI x.2.2.1)) 76 0 m (nI x.2.2.2)) 77 0 m (lvI (x.2.2.1 - x.2.1))) 15 0 3 (nI (m + 1))
theorem adL_F (h : mj_H) (m : Nat) (x : Lin) : fF h (adL h m x) := sorry
theorem adL_Ls {h : mj_H} {L : List Lin} {x : Lin} (a : TLs h L) : TLs (adL h L.length x) (L ++ [x]) := sorry
theorem f1 {t : Nat → Nat} {n : Nat} (x1 x2 y4 y5 : Int32) (i d : Nat) (h : mj_H) (hT : TT t n h) (hS : h.1 15 0 2 = nI n) (hi : i ≤ n) :
    mj_R mg d mq_205 (19, [(3, vI (nI i)), (2, vI x2), (1, vI x1), (0, vR 15 0)], [], h) = mj_R mg d mq_205 (44, [(3, vI (nI (lnK t n i))), (2, vI x2), (1, vI x1), (0, vR 15 0)], [], h) := sorry
theorem f2 {t : Nat → Nat} {n K : Nat} (hK : K ≤ n) (x1 x2 y5 : Int32) (i d : Nat) (h : mj_H) (hT : TT t n h) (hi : i ≤ K) :
    mj_R mg d mq_205 (47, [(4, vI (nI i)), (3, vI (nI K)), (2, vI x2), (1, vI x1), (0, vR 15 0)], [], h) = mj_R mg d mq_205 (93, [(4, vI (nI (lnE t K i))), (3, vI (nI K)), (2, vI x2), (1, vI x1), (0, vR 15 0)], [], h) := sorry
theorem f3 {t : Nat → Nat} {n e : Nat} (he : e ≤ n) (x1 x2 x3 : Int32) (i d : Nat) (h : mj_H) (hT : TT t n h) (hi : i ≤ e) :
    mj_R mg d mq_205 (96, [(5, vI (nI i)), (4, vI (nI e)), (3, vI x3), (2, vI x2), (1, vI x1), (0, vR 15 0)], [], h) = mj_R mg d mq_205 (121, [(5, vI (nI (spE t e i))), (4, vI (nI e)), (3, vI x3), (2, vI x2), (1, vI x1), (0, vR 15 0)], [], h) := sorry
/-- one line -/
theorem f4 {t : Nat → Nat} {n : Nat} (y4 y5 : Int32) (b u d : Nat) (h : mj_H) (L : List Lin) (hT : TT t n h) (hS : h.1 15 0 2 = nI n) (hb : b ≤ n) (hA : TLs h L) (hL : L.length ≤ b) :
    ∃ x5 x4 x3, mj_R mg d mq_205 (19, [(3, vI (nI b)), (2, vI (nI u)), (1, vI (nI b)), (0, vR 15 0)], [], h) = mj_R mg d mq_205 (9, [(1, vI (nI (lnK t n b + 1))), (2, vI (nI (u + 1))), (5, vI x5), (4, vI x4), (3, vI x3), (0, vR 15 0)], [], if spE t (lnE t (lnK t n b) b) b < lnE t (lnK t n b) b then adL h L.length (u, b, spE t (lnE t (lnK t n b) b) b, lnE t (lnK t n b) b) else h) := sorry
theorem f1_2 {t : Nat → Nat} {n : Nat} (x1 x2 y4 y5 : Int32) (i d : Nat) (h : mj_H) (hT : TT t n h) (hS : h.1 15 0 2 = nI n) (hi : i ≤ n) :
    mj_R mg d mq_205 (19, [(3, vI (nI i)), (1, vI x1), (2, vI x2), (5, vI y5), (4, vI y4), (0, vR 15 0)], [], h) = mj_R mg d mq_205 (44, [(3, vI (nI (lnK t n i))), (1, vI x1), (2, vI x2), (5, vI y5), (4, vI y4), (0, vR 15 0)], [], h) := sorry
theorem f2_2 {t : Nat → Nat} {n K : Nat} (hK : K ≤ n) (x1 x2 y5 : Int32) (i d : Nat) (h : mj_H) (hT : TT t n h) (hi : i ≤ K) :
    mj_R mg d mq_205 (47, [(4, vI (nI i)), (3, vI (nI K)), (1, vI x1), (2, vI x2), (5, vI y5), (0, vR 15 0)], [], h) = mj_R mg d mq_205 (93, [(4, vI (nI (lnE t K i))), (3, vI (nI K)), (1, vI x1), (2, vI x2), (5, vI y5), (0, vR 15 0)], [], h) := sorry
theorem f3_2 {t : Nat → Nat} {n e : Nat} (he : e ≤ n) (x1 x2 x3 : Int32) (i d : Nat) (h : mj_H) (hT : TT t n h) (hi : i ≤ e) :
    mj_R mg d mq_205 (96, [(5, vI (nI i)), (4, vI (nI e)), (3, vI x3), (1, vI x1), (2, vI x2), (0, vR 15 0)], [], h) = mj_R mg d mq_205 (121, [(5, vI (nI (spE t e i))), (4, vI (nI e)), (3, vI x3), (1, vI x1), (2, vI x2), (0, vR 15 0)], [], h) := sorry
/-- one line -/
theorem f4_2 {t : Nat → Nat} {n : Nat} (y4 y5 : Int32) (b u d : Nat) (h : mj_H) (L : List Lin) (hT : TT t n h) (hS : h.1 15 0 2 = nI n) (hb : b ≤ n) (hA : TLs h L) (hL : L.length ≤ b) :
    ∃ x5 x4 x3, mj_R mg d mq_205 (19, [(3, vI (nI b)), (1, vI (nI b)), (2, vI (nI u)), (5, vI y5), (4, vI y4), (0, vR 15 0)], [], h) = mj_R mg d mq_205 (9, [(1, vI (nI (lnK t n b + 1))), (2, vI (nI (u + 1))), (5, vI x5), (4, vI x4), (3, vI x3), (0, vR 15 0)], [], if spE t (lnE t (lnK t n b) b) b < lnE t (lnK t n b) b then adL h L.length (u, b, spE t (lnE t (lnK t n b) b) b, lnE t (lnK t n b) b) else h) := sorry
theorem f_loop {t : Nat → Nat} {n : Nat} (b u d : Nat) (y3 y4 y5 : Int32) (h : mj_H) (L : List Lin) (hT : TT t n h) (hS : h.1 15 0 2 = nI n) (hb : b ≤ n + 1) (hA : TLs h L) (hL : L.length ≤ b) :
    mP (mj_R mg d mq_205 (9, [(1, vI (nI b)), (2, vI (nI u)), (5, vI y5), (4, vI y4), (3, vI y3), (0, vR 15 0)], [], h)) (fun v h' => v = none ∧ fF h h' ∧ TLs h' (L ++ lnsE t n b u)) := sorry
theorem u_lines {t : Nat → Nat} {n d : Nat} {h : mj_H} (hT : TT t n h) (hS : h.1 15 0 2 = nI n) :
    mP (mj_R mg d mq_205 (0, [(0, vR 15 0)], [], h)) (fun v h' => v = none ∧ fF h h' ∧ TLs h' (lnsE t n 0 0)) := sorry
