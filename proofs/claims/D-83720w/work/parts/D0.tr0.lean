/-! the twin's reader: faults, tokens that have to come -/
/-- sign codes that there are -/
def tkV (k : Tok) : Prop := k.1 = 4 → (k.2.2.1 < 128 ∨ k.2.2.1 = 14909 ∨ k.2.2.1 = 15422 ∨ k.2.2.1 = 15421 ∨ k.2.2.1 = 15933 ∨ k.2.2.1 = 15420 ∨ k.2.2.1 = 15934 ∨ k.2.2.1 = 12124 ∨ k.2.2.1 = 23599)
theorem tkA_V {t : Nat → Nat} {n b e p : Nat} (hT : txOK t n) (he : e ≤ n) : tkV (tkA t b e p) := sorry
theorem hd_tkL {t : Nat → Nat} {b e p : Nat} : hd (tkL t b e p) = tkA t b e p := sorry
theorem sgT_c {k : Tok} (hv : tkV k) (h4 : k.1 = 4) {c : Nat} (hc : c < 128 ∨ c = 14909) : nI (sgT k.2.2.1) = nI (sgT c) ↔ k.2.2.1 = c := sorry
theorem TP.hs {t : Nat → Nat} {n : Nat} {h : mj_H} {u i : Nat} {ts : List Tok} {L : List PL} (a : TP t n h (u, i, ts) L) : ∃ m K, TTk h (hd ts) ∧ tkW (hd ts) ∧ tkV (hd ts) ∧ h.1 15 0 9 = nI m ∧ m < K ∧ K ≤ 3001 ∧ h.1 15 0 3 = nI K ∧ h.1 73 0 m = nI u ∧ u ≤ 3000 ∧ i ≤ 3000 ∧ ((hd ts).1 ≠ 0 → ts = hd ts :: ts.tail) ∧ 1 ≤ ts.length := sorry
/-- a fault -/
def tfl (h : mj_H) (f : Flt) : mj_H := mj_sI (mj_sI (mj_sI h 15 0 16 (nI f.1)) 15 0 17 (flI f).1) 15 0 18 (flI f).2
theorem t_bad0 {d : Nat} {h : mj_H} (hG : h.1 15 0 16 = 0) : mj_R mg d mq_204 (0, [(0, vR 15 0)], [], h) = some (.inl (some (vI 0), h)) := sorry
theorem t_bad1 {d : Nat} {h : mj_H} (hB : h.1 15 0 16 ≠ 0) : mj_R mg d mq_204 (0, [(0, vR 15 0)], [], h) = some (.inl (some (vI 1), h)) := sorry
theorem t_fail0 {d : Nat} {h : mj_H} {x1 x2 : Int32} (hB : h.1 15 0 16 ≠ 0) : mj_R mg d mq_203 (0, [(0, vR 15 0), (1, vI x1), (2, vI x2)], [], h) = some (.inl (none, h)) := sorry
theorem t_fail {d m K k u p : Nat} {h : mj_H} (hG : h.1 15 0 16 = 0) (hm : h.1 15 0 9 = nI m) (hK : h.1 15 0 3 = nI K) (h1 : m < K) (h2 : K ≤ 3001) (hu : h.1 73 0 m = nI u) : mj_R mg d mq_203 (0, [(0, vR 15 0), (1, vI (nI k)), (2, vI (nI p))], [], h) = some (.inl (none, tfl h (k, some (u, p)))) := sorry
theorem t_failN {d m k : Nat} {h : mj_H} {p : Int32} (hG : h.1 15 0 16 = 0) (hm : h.1 15 0 9 = nI m) (hK : h.1 15 0 3 = nI m) : mj_R mg d mq_203 (0, [(0, vR 15 0), (1, vI (nI k)), (2, vI p)], [], h) = some (.inl (none, tfl h (k, none))) := sorry
theorem tq_fail {t : Nat → Nat} {n d u i k p : Nat} {ts : List Tok} {L : List PL} {h : mj_H} (a : TP t n h (u, i, ts) L) (hG : h.1 15 0 16 = 0) : mj_R mg d mq_203 (0, [(0, vR 15 0), (1, vI (nI k)), (2, vI (nI p))], [], h) = some (.inl (none, tfl h (k, some (u, p)))) := sorry
theorem t_is {d c : Nat} {h : mj_H} {k : Tok} (hk : TTk h k) (hw : tkW k) (hv : tkV k) (hc : c < 128 ∨ c = 14909) : mj_R mg d mq_221 (0, [(0, vR 15 0), (1, vI (nI (sgT c)))], [], h) = some (.inl (some (vI (bI (isS c k))), h)) := sorry
theorem t_is1 {d c : Nat} {h : mj_H} {k : Tok} (hk : TTk h k) (hw : tkW k) (hv : tkV k) (hc : c < 128) : mj_R mg d mq_221 (0, [(0, vR 15 0), (1, vI (nI c))], [], h) = some (.inl (some (vI (bI (isS c k))), h)) := sorry
theorem t_isW {d w : Nat} {h : mj_H} {k : Tok} (hk : TTk h k) (hw : tkW k) (hc : w < 128) : mj_R mg d mq_220 (0, [(0, vR 15 0), (1, vI (nI w))], [], h) = some (.inl (some (vI (bI (isW w k))), h)) := sorry
theorem t_isB {d : Nat} {x : Int32} {h : mj_H} : ∃ b, mj_R mg d mq_221 (0, [(0, vR 15 0), (1, vI x)], [], h) = some (.inl (some (vI (bI b)), h)) := sorry
theorem t_isWB {d : Nat} {x : Int32} {h : mj_H} : ∃ b, mj_R mg d mq_220 (0, [(0, vR 15 0), (1, vI x)], [], h) = some (.inl (some (vI (bI b)), h)) := sorry
theorem t_need0 {d : Nat} {x : Int32} {h : mj_H} (hB : h.1 15 0 16 ≠ 0) : mj_R mg (d + 1) mq_222 (0, [(0, vR 15 0), (1, vI x)], [], h) = some (.inl (none, h)) := sorry
theorem t_end0 {d : Nat} {h : mj_H} (hB : h.1 15 0 16 ≠ 0) : mj_R mg (d + 1) mq_223 (0, [(0, vR 15 0)], [], h) = some (.inl (none, h)) := sorry
def uT (t : Nat → Nat) (n u i : Nat) (L : List PL) (h h' : mj_H) : Rs (List Tok) → Prop
  | .inl f => h' = tfl h (f.1, some (u, f.2))
  | .inr ts => tF h h' ∧ TP t n h' (u, i, ts) L
theorem t_need {t : Nat → Nat} {n d u i : Nat} {ts : List Tok} {L : List PL} {h : mj_H} {b : Bool} (a : TP t n h (u, i, ts) L) (hG : h.1 15 0 16 = 0) (hb : b = true → (hd ts).1 ≠ 0) : mP (mj_R mg (d + 4) mq_222 (0, [(0, vR 15 0), (1, vI (bI b))], [], h)) (fun v h' => v = none ∧ uT t n u i L h h' (tkS b ts)) := sorry
/-- the line is over: the next one -/
theorem t_end {t : Nat → Nat} {n d u i : Nat} {ts : List Tok} {L : List PL} {h : mj_H} (a : TP t n h (u, i, ts) L) (hG : h.1 15 0 16 = 0) : mP (mj_R mg (d + 1) mq_223 (0, [(0, vR 15 0)], [], h)) (fun v h' => v = none ∧ match endS ts with | .inl f => h' = tfl h (f.1, some (u, f.2)) | .inr _ => tG h h' ∧ TQ t n h' L) := sorry
