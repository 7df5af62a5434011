/-! the twin's lexer: signs and words -/
def sgT (v : Nat) : Nat := bif Nat.beq v 14909 then 300 else bif Nat.beq v 15422 then 301 else bif Nat.beq v 15421 then 302 else bif Nat.beq v 15933 then 303 else bif Nat.beq v 15420 then 304 else bif Nat.beq v 15934 then 305 else bif Nat.beq v 12124 then 306 else bif Nat.beq v 23599 then 307 else v
def pzF (c d : Nat) : Nat := if c = 47 then (if d = 92 then 306 else 0) else if c = 58 then (if d = 61 then 300 else 0) else if c = 60 then (if d = 62 then 301 else if d = 61 then 302 else if d = 60 then 304 else 0) else if c = 62 then (if d = 61 then 303 else if d = 62 then 305 else 0) else if c = 92 then (if d = 47 then 307 else 0) else 0
theorem pzF_eq {c d : Nat} (hc : c < 128) (hd : d < 128) : pzF c d = bif sgL c d then sgT (c * 256 + d) else 0 := sorry
theorem pzF_le (c d : Nat) : pzF c d ≤ 307 := sorry
theorem t_pair {c d D : Nat} {h : mj_H} (hc : c < 128) (hd : d < 128) : mj_R mg D mq_218 (0, [(0, vI (nI c)), (1, vI (nI d))], [], h) = some (.inl (some (vI (nI (pzF c d))), h)) := sorry
theorem t_ix {c : Nat} (hc : c < 128) : (0 ≤ mj_ix (mt_sch 26) (nI c) (mt_sln 26) 0 ∨ c = 92) ↔ sgK c = true := sorry
theorem u_sign {t : Nat → Nat} {n l b e f d : Nat} {h : mj_H} (he : e ≤ n) (hT : TT t n h) (hL : TL h l b e) (hf : f < e) (ha : h.1 15 0 10 = nI f) :
    mP (mj_R mg (d + 2) mq_219 (0, [(0, vR 15 0), (1, vI (nI (t f)))], [], h)) (fun v h' => v = none ∧ tF h h' ∧ h'.1 15 0 10 = nI (f + (bif sgL (t f) (chE t e (f + 1)) then 2 else 1)) ∧ h'.1 15 0 11 = nI (bif sgL (t f) (chE t e (f + 1)) || sgK (t f) then 4 else 5) ∧ h'.1 15 0 13 = nI (bif sgL (t f) (chE t e (f + 1)) then sgT (t f * 256 + chE t e (f + 1)) else t f) ∧ h'.1 15 0 12 = h.1 15 0 12) := sorry
/-- the row of words, gone through -/
def kwS : Nat → Nat × Nat
  | 0 => (0, 1)
  | i + 1 => bif Nat.beq (mt_sch 25 i) 44 then (0, (kwS i).2 + 1) else (27 * (kwS i).1 + mt_sch 25 i - 65 + 1, (kwS i).2)
def kof (v : Nat) : Nat → Nat → Nat
  | 0, _ => 0
  | m + 1, i => bif Nat.beq (mt_sch 25 i) 44 && Nat.beq (kwS i).1 v then (kwS i).2 else kof v m (i + 1)
theorem kw_ok : ∀ i, i < mt_sln 25 → (kwS i).1 < 10 ^ 14 ∧ (mt_sch 25 i = 44 ∨ (65 ≤ mt_sch 25 i ∧ mt_sch 25 i ≤ 90)) := sorry
theorem kw_ln : mt_sln 25 = 112 ∨ mt_sln 25 < 200 := sorry
theorem ko_loop {v d : Nat} {h : mj_H} (hv : v < 2 ^ 62) : ∀ m i, i + m = mt_sln 25 → mj_R mg d mq_216 (13, [(7, vI (nI i)), (5, vL (lN (kwS i).1)), (4, vI (nI (kwS i).2)), (3, vR 9 25), (0, vR 15 0), (1, vL (lN v))], [], h) = some (.inl (some (vI (nI (kof v m i))), h)) := sorry
theorem t_keyOf {v d : Nat} {h : mj_H} (hv : v < 2 ^ 62) : mj_R mg d mq_216 (0, [(0, vR 15 0), (1, vL (lN v))], [], h) = some (.inl (some (vI (nI (kof v (mt_sln 25) 0))), h)) := sorry
