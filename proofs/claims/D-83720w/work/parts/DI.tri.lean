/-! the twin's reader: levels of lines -/
def stk (lv : Nat) (L : List PL) : Bool := match L with
  | [] => false
  | x :: _ => oddI x.2.1 || decide (lv < x.2.1 / 2)
theorem stk_at {lv lv' : Nat} {L : List PL} (h : stk lv L = true) (hl : lv' ≤ lv) : isAt lv' L = false := sorry
theorem stk_le {lv lv' : Nat} {L : List PL} (h : stk lv L = true) (hl : lv' ≤ lv) : stk lv' L = true := sorry
theorem TQ.ln {t : Nat → Nat} {n : Nat} {h : mj_H} {L : List PL} (a : TQ t n h L) : ∃ m K, h.1 15 0 9 = nI m ∧ h.1 15 0 3 = nI K ∧ K ≤ 3001 ∧ m ≤ K ∧ (L = [] → m = K) ∧ ∀ x r, L = x :: r → m < K ∧ h.1 73 0 m = nI x.1 ∧ h.1 77 0 m = lvI x.2.1 ∧ h.1 75 0 m - h.1 74 0 m = nI x.2.1 ∧ x.2.1 ≤ 3000 := sorry
theorem lvI_at {i lv : Nat} (hi : i ≤ 3000) (hl : lv ≤ 100) : lvI i = nI lv ↔ (i / 2 == lv && !(oddI i)) = true := sorry
theorem tX_fl {h : mj_H} (f : Flt) (hk : f.1 ≠ 0) (hk2 : f.1 < 10) : tX h (tfl h f) f := sorry
theorem tX_lv {h : mj_H} (L : List PL) : tX h (tfl h (lvlF L)) (lvlF L) := sorry
theorem t_levelB {d : Nat} {x : Int32} {h : mj_H} (hB : h.1 15 0 16 ≠ 0) : mj_R mg (d + 1) mq_225 (0, [(0, vR 15 0), (1, vI x)], [], h) = some (.inl (some (vI 0), h)) := sorry
theorem t_belowB {d : Nat} {x : Int32} {h : mj_H} (hB : h.1 15 0 16 ≠ 0) : mj_R mg (d + 1) mq_226 (0, [(0, vR 15 0), (1, vI x)], [], h) = some (.inl (some (vI 0), h)) := sorry
/-- the line's level has to be so -/
theorem t_level {t : Nat → Nat} {n d lv : Nat} {L : List PL} {h : mj_H} (a : TQ t n h L) (hG : h.1 15 0 16 = 0) (hl : lv ≤ 100) : mj_R mg (d + 1) mq_225 (0, [(0, vR 15 0), (1, vI (nI lv))], [], h) = if isAt lv L then some (.inl (some (vI 1), h)) else some (.inl (some (vI 0), tfl h (lvlF L))) := sorry
/-- is there a line below? -/
theorem t_below {t : Nat → Nat} {n d lv : Nat} {L : List PL} {h : mj_H} (a : TQ t n h L) (hG : h.1 15 0 16 = 0) (hl : lv ≤ 99) : mj_R mg (d + 1) mq_226 (0, [(0, vR 15 0), (1, vI (nI lv))], [], h) = if isAt (lv + 1) L then some (.inl (some (vI 1), h)) else some (.inl (some (vI 0), if stk (lv + 1) L then tfl h (lvlF L) else h)) := sorry
