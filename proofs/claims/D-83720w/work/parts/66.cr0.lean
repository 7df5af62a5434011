/-! the component's reader: faults, signs and words that have to come -/
def tkW (k : Tok) : Prop := k.1 ≤ 5 ∧ k.2.1 ≤ 3000 ∧ (k.1 = 4 → k.2.2.1 < 40000) ∧ (k.1 = 2 → 1 ≤ k.2.2.1 ∧ k.2.2.1 ≤ 23) ∧ (k.1 = 3 → k.2.2.1 ≤ 2147483647) ∧ (k.1 = 1 → 1 ≤ k.2.2.2.length ∧ k.2.2.2.length ≤ 10 ∧ ∀ c ∈ k.2.2.2, isId c = true)
theorem tkA_W {t : Nat → Nat} {n b e p : Nat} (hT : txOK t n) (he : e ≤ n) (hb : b ≤ p) : tkW (tkA t b e p) := sorry
/-- the token at hand -/
theorem CQ.hd {t : Nat → Nat} {n : Nat} {h : mj_H} {u i : Nat} {ts : List Tok} {L : List PL} (a : CQ t n h ((u, i, ts) :: L)) : CTk h (hd ts) ∧ tkW (hd ts) ∧ h.1 6 0 7 = 0 ∧ h.1 6 0 3 = nI u ∧ h.1 6 0 8 = nI (i / 2) ∧ h.1 6 0 9 = bI (oddI i) ∧ u ≤ 3000 ∧ i ≤ 3000 ∧ ((hd ts).1 ≠ 0 → ts = hd ts :: ts.tail) := sorry
def flI (f : Flt) : Int32 × Int32 := match f.2 with
  | none => (-1, -1)
  | some x => (nI x.1, nI x.2)
/-- a fault is told -/
def fl (h : mj_H) (f : Flt) : mj_H := mj_sI (mj_sI (mj_sI h 5 0 2 (nI f.1)) 5 0 3 (flI f).1) 5 0 4 (flI f).2
theorem r_good1 {d : Nat} {h : mj_H} (hG : h.1 5 0 2 = 0) : mj_R mg d mq_36 (0, [(0, vR 5 0)], [], h) = some (.inl (some (vI 1), h)) := sorry
theorem r_good0 {d : Nat} {h : mj_H} (hB : h.1 5 0 2 ≠ 0) : mj_R mg d mq_36 (0, [(0, vR 5 0)], [], h) = some (.inl (some (vI 0), h)) := sorry
theorem i1 : ¬ (1 : Int32) = 0 := sorry
theorem r_fail1 {d : Nat} {h : mj_H} {k : Nat} {l p : Int32} (hG : h.1 5 0 2 = 0) : mj_R mg (d + 1) mq_37 (0, [(0, vR 5 0), (1, vI (nI k)), (2, vI l), (3, vI p)], [], h) = some (.inl (none, mj_sI (mj_sI (mj_sI h 5 0 2 (nI k)) 5 0 3 l) 5 0 4 p)) := sorry
theorem r_fail0 {d : Nat} {h : mj_H} {k l p : Int32} (hB : h.1 5 0 2 ≠ 0) : mj_R mg (d + 1) mq_37 (0, [(0, vR 5 0), (1, vI k), (2, vI l), (3, vI p)], [], h) = some (.inl (none, h)) := sorry
theorem r_failAt1 {d : Nat} {h : mj_H} {k u p : Nat} (hG : h.1 5 0 2 = 0) (hu : h.1 6 0 3 = nI u) : mj_R mg (d + 2) mq_38 (0, [(0, vR 5 0), (1, vI (nI k)), (2, vI (nI p))], [], h) = some (.inl (none, fl h (k, some (u, p)))) := sorry
theorem r_failAt0 {d : Nat} {h : mj_H} {k p : Int32} (hB : h.1 5 0 2 ≠ 0) : mj_R mg (d + 2) mq_38 (0, [(0, vR 5 0), (1, vI k), (2, vI p)], [], h) = some (.inl (none, h)) := sorry
theorem r_wrong0 {d : Nat} {h : mj_H} (hB : h.1 5 0 2 ≠ 0) : mj_R mg (d + 3) mq_39 (0, [(0, vR 5 0)], [], h) = some (.inl (none, h)) := sorry
theorem r_wrong1 {d : Nat} {h : mj_H} {u p : Nat} (hG : h.1 5 0 2 = 0) (hO : h.1 6 0 7 = 0) (hu : h.1 6 0 3 = nI u) (hp : h.1 6 0 11 = nI p) : mj_R mg (d + 3) mq_39 (0, [(0, vR 5 0)], [], h) = some (.inl (none, fl h (1, some (u, p)))) := sorry
theorem r_wrongO {d : Nat} {h : mj_H} (hG : h.1 5 0 2 = 0) (hO : h.1 6 0 7 = 1) : mj_R mg (d + 3) mq_39 (0, [(0, vR 5 0)], [], h) = some (.inl (none, fl h (1, none))) := sorry
theorem r_take0 {d : Nat} {h : mj_H} {x : Int32} (hB : h.1 5 0 2 ≠ 0) : mj_R mg (d + 4) mq_40 (0, [(0, vR 5 0), (1, vI x)], [], h) = some (.inl (none, h)) := sorry
/-- wrong, at the token at hand -/
theorem q_wrong {t : Nat → Nat} {n d u i : Nat} {ts : List Tok} {L : List PL} {h : mj_H} (a : CQ t n h ((u, i, ts) :: L)) (hG : h.1 5 0 2 = 0) : mj_R mg (d + 3) mq_39 (0, [(0, vR 5 0)], [], h) = some (.inl (none, fl h (1, some (u, (hd ts).2.1)))) := sorry
theorem q_failAt {t : Nat → Nat} {n d u i k p : Nat} {ts : List Tok} {L : List PL} {h : mj_H} (a : CQ t n h ((u, i, ts) :: L)) (hG : h.1 5 0 2 = 0) : mj_R mg (d + 2) mq_38 (0, [(0, vR 5 0), (1, vI (nI k)), (2, vI (nI p))], [], h) = some (.inl (none, fl h (k, some (u, p)))) := sorry
/-- take -/
theorem q_take {t : Nat → Nat} {n d u i : Nat} {ts : List Tok} {L : List PL} {h : mj_H} {b : Bool} (a : CQ t n h ((u, i, ts) :: L)) (hG : h.1 5 0 2 = 0) (hb : b = true → (hd ts).1 ≠ 0) : mP (mj_R mg (d + 5) mq_40 (0, [(0, vR 5 0), (1, vI (bI b))], [], h)) (fun v h' => v = none ∧ ((b = true ∧ cG h h' ∧ CQ t n h' ((u, i, ts.tail) :: L)) ∨ (b = false ∧ h' = fl h (1, some (u, (hd ts).2.1))))) := sorry
theorem r_is {d c : Nat} {h : mj_H} {k : Tok} (hk : CTk h k) (hw : tkW k) (hc : c < 2 ^ 31) : mj_R mg d mq_100 (0, [(0, vR 6 0), (1, vI (nI c))], [], h) = some (.inl (some (vI (bI (isS c k))), h)) := sorry
theorem r_isW {d w : Nat} {h : mj_H} {k : Tok} (hk : CTk h k) (hw : tkW k) : mj_R mg d mq_101 (0, [(0, vR 6 0), (1, vR 16 w)], [], h) = some (.inl (some (vI (bI (isW (w + 1) k))), h)) := sorry
theorem isS_ne {c : Nat} {k : Tok} (h : isS c k = true) : k.1 ≠ 0 := sorry
theorem isW_ne {c : Nat} {k : Tok} (h : isW c k = true) : k.1 ≠ 0 := sorry
/-- the post of a token that has to come -/
def ptT (t : Nat → Nat) (n u i : Nat) (L : List PL) (h h' : mj_H) : Rs (List Tok) → Prop
  | .inl f => h' = fl h (f.1, some (u, f.2))
  | .inr ts => cG h h' ∧ CQ t n h' ((u, i, ts) :: L)
theorem q_takeT {t : Nat → Nat} {n d u i : Nat} {ts : List Tok} {L : List PL} {h : mj_H} {b : Bool} (a : CQ t n h ((u, i, ts) :: L)) (hG : h.1 5 0 2 = 0) (hb : b = true → (hd ts).1 ≠ 0) : mP (mj_R mg (d + 5) mq_40 (0, [(0, vR 5 0), (1, vI (bI b))], [], h)) (fun v h' => v = none ∧ ptT t n u i L h h' (tkS b ts)) := sorry
theorem q_takeI {t : Nat → Nat} {n d u i c : Nat} {ts : List Tok} {L : List PL} {h : mj_H} (a : CQ t n h ((u, i, ts) :: L)) (hG : h.1 5 0 2 = 0) (hc : c < 2 ^ 31) : mP (mj_R mg (d + 6) mq_41 (0, [(0, vR 5 0), (1, vI (nI c))], [], h)) (fun v h' => v = none ∧ ptT t n u i L h h' (tkS (isS c (hd ts)) ts)) := sorry
theorem q_takeI0 {t : Nat → Nat} {n d u i c : Nat} {ts : List Tok} {L : List PL} {h : mj_H} (a : CQ t n h ((u, i, ts) :: L)) (hB : h.1 5 0 2 ≠ 0) (hc : c < 2 ^ 31) : mj_R mg (d + 6) mq_41 (0, [(0, vR 5 0), (1, vI (nI c))], [], h) = some (.inl (none, h)) := sorry
theorem q_takeW {t : Nat → Nat} {n d u i w : Nat} {ts : List Tok} {L : List PL} {h : mj_H} (a : CQ t n h ((u, i, ts) :: L)) (hG : h.1 5 0 2 = 0) : mP (mj_R mg (d + 6) mq_42 (0, [(0, vR 5 0), (1, vR 16 w)], [], h)) (fun v h' => v = none ∧ ptT t n u i L h h' (tkS (isW (w + 1) (hd ts)) ts)) := sorry
theorem q_takeW0 {t : Nat → Nat} {n d u i w : Nat} {ts : List Tok} {L : List PL} {h : mj_H} (a : CQ t n h ((u, i, ts) :: L)) (hB : h.1 5 0 2 ≠ 0) : mj_R mg (d + 6) mq_42 (0, [(0, vR 5 0), (1, vR 16 w)], [], h) = some (.inl (none, h)) := sorry
