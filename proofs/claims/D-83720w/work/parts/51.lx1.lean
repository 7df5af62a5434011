/-! the component's lexer: signs -/
def bI (b : Bool) : Int32 := bif b then 1 else 0
theorem bI_01 (b : Bool) : bI b = 0 ∨ bI b = 1 := sorry
theorem bI_0 (b : Bool) : bI b = 0 ↔ b = false := sorry
def CT (t : Nat → Nat) (n : Nat) (h : mj_H) : Prop := txOK t n ∧ h.1 3 0 1 = nI n ∧ ∀ j, j < n → h.1 21 0 j = nI (t j)
theorem c_get {t : Nat → Nat} {n d k : Nat} {h : mj_H} (hT : CT t n h) (hk : k < 2 ^ 31) : mj_R mg d mq_33 (0, [(0, vR 3 0), (1, vI (nI k))], [], h) = some (.inl (some (vI (nI (txG t n k))), h)) := sorry
theorem txG_lt {t : Nat → Nat} {n k : Nat} (hT : txOK t n) : txG t n k < 128 := sorry
theorem chE_lt {t : Nat → Nat} {n e k : Nat} (hT : txOK t n) (he : e ≤ n) : chE t e k < 128 := sorry
theorem l_get {t : Nat → Nat} {n d k e : Nat} {h : mj_H} (hT : CT t n h) (hE : h.1 6 0 5 = nI e) (he : e ≤ n) (hk : k < 2 ^ 31) : mj_R mg (d + 1) mq_93 (0, [(0, vR 6 0), (1, vI (nI k))], [], h) = some (.inl (some (vI (nI (chE t e k))), h)) := sorry
theorem i2l_nI {c : Nat} (hc : c < 2 ^ 31) : (nI c).toInt64 = lN c := sorry
theorem c_is {v lo hi : Nat} {d : Nat} {h : mj_H} (hv : v < 2 ^ 31) (hl : lo < 2 ^ 31) (hh : hi < 2 ^ 31) : mj_R mg d mq_0 (0, [(0, vL (lN v)), (2, vL (lN lo)), (4, vL (lN hi))], [], h) = some (.inl (some (vI (bI (Nat.ble lo v && Nat.ble v hi))), h)) := sorry
theorem c_dg {c d : Nat} {h : mj_H} (hc : c < 2 ^ 31) : mj_R mg (d + 1) mq_1 (0, [(0, vI (nI c))], [], h) = some (.inl (some (vI (bI (isDg c))), h)) := sorry
theorem c_sm {c d : Nat} {h : mj_H} (hc : c < 2 ^ 31) : mj_R mg (d + 1) mq_2 (0, [(0, vI (nI c))], [], h) = some (.inl (some (vI (bI (isSm c))), h)) := sorry
theorem c_cp {c d : Nat} {h : mj_H} (hc : c < 2 ^ 31) : mj_R mg (d + 1) mq_3 (0, [(0, vI (nI c))], [], h) = some (.inl (some (vI (bI (isCp c))), h)) := sorry
/-- what a step of the lexer leaves alone -/
def cF (h h' : mj_H) : Prop := (∀ g, g ≠ 6 → h'.1 g = h.1 g ∧ h'.2.1 g = h.2.1 g ∧ h'.2.2 g = h.2.2 g) ∧ h'.1 6 0 2 = h.1 6 0 2 ∧ h'.1 6 0 3 = h.1 6 0 3 ∧ h'.1 6 0 4 = h.1 6 0 4 ∧ h'.1 6 0 5 = h.1 6 0 5 ∧ h'.1 6 0 7 = h.1 6 0 7 ∧ h'.1 6 0 8 = h.1 6 0 8 ∧ h'.1 6 0 9 = h.1 6 0 9
theorem cF.rf (h : mj_H) : cF h h := sorry
theorem cF.tr {h h1 h2 : mj_H} (a : cF h h1) (b : cF h1 h2) : cF h h2 := sorry
theorem mI_g {h : mj_H} {g i j : Nat} {v : Int32} {g' : Nat} (hg : g' ≠ g) : (mj_sI h g i j v).1 g' = h.1 g' := sorry
theorem mL_g {h : mj_H} {g i j : Nat} {v : Int64} {g' : Nat} (hg : g' ≠ g) : (mj_sL h g i j v).2.1 g' = h.2.1 g' := sorry
theorem mR_g {h : mj_H} {g i j : Nat} {v : Nat} {g' : Nat} (hg : g' ≠ g) : (mj_sR h g i j v).2.2 g' = h.2.2 g' := sorry
theorem cF_I (h : mj_H) (j : Nat) (v : Int32) (hj : j = 6 ∨ 10 ≤ j) : cF h (mj_sI h 6 0 j v) := sorry
theorem cF_L (h : mj_H) (j : Nat) (v : Int64) : cF h (mj_sL h 6 0 j v) := sorry
theorem cF_R (h : mj_H) (j : Nat) (v : Nat) : cF h (mj_sR h 6 0 j v) := sorry
theorem CT.mv {t : Nat → Nat} {n : Nat} {h h' : mj_H} (a : CT t n h) (f : cF h h') : CT t n h' := sorry
def pkF (t : Nat → Nat) (f : Nat) : Nat → Nat
  | 0 => 0
  | k + 1 => pkF t f k * 256 + t (f + k)
theorem lN_pack (a c : Nat) (hc : c < 256) : (lN a <<< ((8 : Int32).toInt64 &&& 63)) ||| (nI c).toInt64 = lN (a * 256 + c) := sorry
/-- takeName -/
theorem isId_0 : isId 0 = false := sorry
theorem chE_in {t : Nat → Nat} {e k : Nat} {p : Nat → Bool} (h0 : p 0 = false) (h : p (chE t e k) = true) : k < e ∧ chE t e k = t k := sorry
theorem skE_chE {t : Nat → Nat} {e k : Nat} {p : Nat → Bool} (h : p (chE t e k) = false) : skE (fun k => p (t k)) e k = k := sorry
theorem tn_loop {t : Nat → Nat} {n e f : Nat} (he : e ≤ n) (i d : Nat) (h : mj_H) (hT : CT t n h) (hE : h.1 6 0 5 = nI e) (hf : f ≤ i) (hi : i ≤ e) (ha : h.1 6 0 6 = nI i) (hA : h.2.1 6 0 13 = lN (pkF t f (min (i - f) 8))) (hB : h.2.1 6 0 14 = lN (pkF t (f + 8) (i - f - 8))) :
    mP (mj_R mg (d + 3) mq_96 (15, [(1, vI (nI f)), (0, vR 6 0)], [], h)) (fun v h' => v = none ∧ cF h h' ∧ h'.1 6 0 6 = nI (skE (fun k => isId (t k)) e i) ∧ h'.1 6 0 10 = nI (if 10 < skE (fun k => isId (t k)) e i - f then 5 else 1) ∧ h'.2.1 6 0 13 = lN (pkF t f (min (skE (fun k => isId (t k)) e i - f) 8)) ∧ h'.2.1 6 0 14 = lN (pkF t (f + 8) (skE (fun k => isId (t k)) e i - f - 8)) ∧ h'.1 6 0 11 = h.1 6 0 11) := sorry
theorem l_name {t : Nat → Nat} {n e f d : Nat} {h : mj_H} (he : e ≤ n) (hT : CT t n h) (hE : h.1 6 0 5 = nI e) (hf : f ≤ e) (ha : h.1 6 0 6 = nI f) :
    mP (mj_R mg (d + 3) mq_96 (0, [(0, vR 6 0)], [], h)) (fun v h' => v = none ∧ cF h h' ∧ h'.1 6 0 6 = nI (skE (fun k => isId (t k)) e f) ∧ h'.1 6 0 10 = nI (if 10 < skE (fun k => isId (t k)) e f - f then 5 else 1) ∧ h'.2.1 6 0 13 = lN (pkF t f (min (skE (fun k => isId (t k)) e f - f) 8)) ∧ h'.2.1 6 0 14 = lN (pkF t (f + 8) (skE (fun k => isId (t k)) e f - f - 8)) ∧ h'.1 6 0 11 = h.1 6 0 11) := sorry
