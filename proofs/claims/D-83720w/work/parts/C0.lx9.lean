/-! the twin's lexer: signs, names, numbers -/
def TT (t : Nat → Nat) (n : Nat) (h : mj_H) : Prop := txOK t n ∧ ∀ j, j < n → h.1 72 0 j = nI (t j)
/-- line l is at hand: from b to e -/
def TL (h : mj_H) (l b e : Nat) : Prop := h.1 15 0 9 = nI l ∧ l < 3001 ∧ h.1 74 0 l = nI b ∧ h.1 76 0 l = nI e
/-- what the twin's lexer leaves alone -/
def tF (h h' : mj_H) : Prop := (∀ g i j, ¬ (g = 15 ∧ 10 ≤ j ∧ j ≤ 13) → h'.1 g i j = h.1 g i j) ∧ (∀ g i j, ¬ (g = 15 ∧ j = 14) → h'.2.1 g i j = h.2.1 g i j) ∧ h'.2.2 = h.2.2
theorem tF.rf (h : mj_H) : tF h h := sorry
theorem tF.tr {h h1 h2 : mj_H} (a : tF h h1) (b : tF h1 h2) : tF h h2 := sorry
theorem tF_I (h : mj_H) (j : Nat) (v : Int32) (hj : 10 ≤ j ∧ j ≤ 13) : tF h (mj_sI h 15 0 j v) := sorry
theorem tF_L (h : mj_H) (v : Int64) : tF h (mj_sL h 15 0 14 v) := sorry
theorem TT.mv {t : Nat → Nat} {n : Nat} {h h' : mj_H} (a : TT t n h) (f : tF h h') : TT t n h' := sorry
theorem TL.mv {l b e : Nat} {h h' : mj_H} (a : TL h l b e) (f : tF h h') : TL h' l b e := sorry
theorem t_get {t : Nat → Nat} {n d l b e k : Nat} {h : mj_H} (hT : TT t n h) (hL : TL h l b e) (he : e ≤ n) (hk : k < 2 ^ 31) : mj_R mg d mq_206 (0, [(0, vR 15 0), (1, vI (nI k))], [], h) = some (.inl (some (vI (nI (chE t e k))), h)) := sorry
theorem t_sm {c d : Nat} {h : mj_H} (hc : c < 2 ^ 31) : mj_R mg d mq_207 (0, [(0, vI (nI c))], [], h) = some (.inl (some (vI (bI (isSm c))), h)) := sorry
theorem t_cp {c d : Nat} {h : mj_H} (hc : c < 2 ^ 31) : mj_R mg d mq_208 (0, [(0, vI (nI c))], [], h) = some (.inl (some (vI (bI (isCp c))), h)) := sorry
theorem t_dg {c d : Nat} {h : mj_H} (hc : c < 2 ^ 31) : mj_R mg d mq_209 (0, [(0, vI (nI c))], [], h) = some (.inl (some (vI (bI (isDg c))), h)) := sorry
def dg38 (c : Nat) : Nat := bif isSm c then c - 97 + 1 else bif isDg c then c - 48 + 27 else 37
theorem t_digit {c d : Nat} {h : mj_H} (hc : c < 2 ^ 31) : mj_R mg (d + 1) mq_210 (0, [(0, vI (nI c))], [], h) = some (.inl (some (vL (lN (dg38 c))), h)) := sorry
def nmF (t : Nat → Nat) (f : Nat) : Nat → Nat
  | 0 => 0
  | k + 1 => 38 * nmF t f k + dg38 (t (f + k))
theorem nmF_L (t : Nat → Nat) (f : Nat) : ∀ k, nmF t f k = bsL 38 ((chF t f k).map dg38) := sorry
theorem un_loop {t : Nat → Nat} {n l b e f : Nat} (he : e ≤ n) (i d : Nat) (h : mj_H) (hT : TT t n h) (hL : TL h l b e) (hf : f ≤ i) (hi : i ≤ e) (ha : h.1 15 0 10 = nI i) (hN : h.2.1 15 0 14 = lN (nmF t f (min (i - f) 10))) :
    mP (mj_R mg (d + 2) mq_213 (7, [(1, vI (nI (i - f))), (0, vR 15 0)], [], h)) (fun v h' => v = none ∧ tF h h' ∧ h'.1 15 0 10 = nI (idE t e i) ∧ h'.1 15 0 11 = nI (if 10 < idE t e i - f then 5 else 1) ∧ h'.2.1 15 0 14 = lN (nmF t f (min (idE t e i - f) 10)) ∧ h'.1 15 0 12 = h.1 15 0 12) := sorry
theorem u_name {t : Nat → Nat} {n l b e f d : Nat} {h : mj_H} (he : e ≤ n) (hT : TT t n h) (hL : TL h l b e) (hf : f ≤ e) (ha : h.1 15 0 10 = nI f) :
    mP (mj_R mg (d + 2) mq_213 (0, [(0, vR 15 0)], [], h)) (fun v h' => v = none ∧ tF h h' ∧ h'.1 15 0 10 = nI (idE t e f) ∧ h'.1 15 0 11 = nI (if 10 < idE t e f - f then 5 else 1) ∧ h'.2.1 15 0 14 = lN (nmF t f (min (idE t e f - f) 10)) ∧ h'.1 15 0 12 = h.1 15 0 12) := sorry
theorem lcmp_gt {a : Nat} (ha : a < 2 ^ 62) : 0 < lg_cmp (lN a) 2147483647 ↔ 2147483647 < a := sorry
theorem uv_loop {t : Nat → Nat} {n l b e f : Nat} (he : e ≤ n) (i d : Nat) (h : mj_H) (hT : TT t n h) (hL : TL h l b e) (hf : f ≤ i) (hi : i ≤ e) (ha : h.1 15 0 10 = nI i) (hdg : ∀ j, f ≤ j → j < i → isDg (t j) = true) :
    mP (mj_R mg (d + 2) mq_217 (4, [(1, vI (nI (i - f))), (2, vL (lN (nvE t f i))), (0, vR 15 0)], [], h)) (fun v h' => v = none ∧ tF h h' ∧ h'.1 15 0 10 = nI (dgE t e i) ∧ h'.1 15 0 11 = nI (if 10 < dgE t e i - f ∨ 2147483647 < nvE t f (dgE t e i) then 5 else 3) ∧ (¬ (10 < dgE t e i - f ∨ 2147483647 < nvE t f (dgE t e i)) → h'.1 15 0 13 = nI (nvE t f (dgE t e i))) ∧ h'.1 15 0 12 = h.1 15 0 12) := sorry
theorem u_number {t : Nat → Nat} {n l b e f d : Nat} {h : mj_H} (he : e ≤ n) (hT : TT t n h) (hL : TL h l b e) (hf : f < e) (ha : h.1 15 0 10 = nI f) (hd : isDg (t f) = true) :
    mP (mj_R mg (d + 2) mq_217 (0, [(0, vR 15 0)], [], h)) (fun v h' => v = none ∧ tF h h' ∧ h'.1 15 0 10 = nI (dgE t e f) ∧ h'.1 15 0 11 = nI (if 10 < dgE t e f - f ∨ 2147483647 < nvE t f (dgE t e f) then 5 else 3) ∧ (¬ (10 < dgE t e f - f ∨ 2147483647 < nvE t f (dgE t e f)) → h'.1 15 0 13 = nI (nvE t f (dgE t e f))) ∧ h'.1 15 0 12 = h.1 15 0 12) := sorry
