/-! the component's lexer: tokens -/
def pkL (l : List Nat) : Nat := l.foldl (fun a c => a * 256 + c) 0
def chF (t : Nat → Nat) (f m : Nat) : List Nat := (List.range' f m).map t
theorem pkF_L (t : Nat → Nat) (f : Nat) : ∀ k, pkF t f k = pkL (chF t f k) := sorry
theorem rg_take : ∀ m f k, (List.range' f m).take k = List.range' f (min m k) := sorry
theorem rg_drop : ∀ m f k, (List.range' f m).drop k = List.range' (f + k) (m - k) := sorry
theorem chF_take (t : Nat → Nat) (f m k : Nat) : (chF t f m).take k = chF t f (min m k) := sorry
theorem chF_drop (t : Nat → Nat) (f m k : Nat) : (chF t f m).drop k = chF t (f + k) (m - k) := sorry
/-- a token: its kind, place, number and signs -/
abbrev Tok := Nat × Nat × Nat × List Nat
def idE (t : Nat → Nat) (e p : Nat) : Nat := skE (fun k => isId (t k)) e p
def cpE (t : Nat → Nat) (e p : Nat) : Nat := skE (fun k => isCp (t k)) e p
def dgE (t : Nat → Nat) (e p : Nat) : Nat := skE (fun k => isDg (t k)) e p
def spE (t : Nat → Nat) (e p : Nat) : Nat := skE (fun k => isSp (t k)) e p
def tkA (t : Nat → Nat) (b e p : Nat) : Tok :=
  if e ≤ p then (0, e - b, 0, [])
  else if isSm (t p) then (if 10 < idE t e p - p then 5 else 1, p - b, 0, chF t p (idE t e p - p))
  else if isCp (t p) then (if wdL t p (cpE t e p) 23 = 0 then 5 else 2, p - b, wdL t p (cpE t e p) 23, [])
  else if isDg (t p) then (if 10 < dgE t e p - p ∨ 2147483647 < nvE t p (dgE t e p) then 5 else 3, p - b, nvE t p (dgE t e p), [])
  else (bif sgL (t p) (chE t e (p + 1)) || sgK (t p) then 4 else 5, p - b, bif sgL (t p) (chE t e (p + 1)) then t p * 256 + chE t e (p + 1) else t p, [])
def tkZ (t : Nat → Nat) (e p : Nat) : Nat :=
  if e ≤ p then p
  else if isSm (t p) then idE t e p
  else if isCp (t p) then cpE t e p
  else if isDg (t p) then dgE t e p
  else p + (bif sgL (t p) (chE t e (p + 1)) then 2 else 1)
def CTk (h : mj_H) (k : Tok) : Prop := h.1 6 0 10 = nI k.1 ∧ h.1 6 0 11 = nI k.2.1 ∧ (k.1 = 1 → h.2.1 6 0 13 = lN (pkL (k.2.2.2.take 8)) ∧ h.2.1 6 0 14 = lN (pkL (k.2.2.2.drop 8))) ∧ (k.1 = 2 → h.2.2 6 0 12 = k.2.2.1) ∧ (k.1 = 3 → h.1 6 0 15 = nI k.2.2.1) ∧ (k.1 = 4 → h.1 6 0 16 = nI k.2.2.1)
theorem idE_spec {t : Nat → Nat} {e p : Nat} (h : p < e) (hs : isSm (t p) = true) : p < idE t e p ∧ idE t e p ≤ e := sorry
theorem cpE_spec {t : Nat → Nat} {e p : Nat} (h : p < e) (hs : isCp (t p) = true) : p < cpE t e p ∧ cpE t e p ≤ e := sorry
theorem dgE_spec {t : Nat → Nat} {e p : Nat} (h : p < e) (hs : isDg (t p) = true) : p < dgE t e p ∧ dgE t e p ≤ e := sorry
theorem sgL_in {t : Nat → Nat} {e p : Nat} (hl : t p < 128) (h : sgL (t p) (chE t e (p + 1)) = true) : p + 1 < e := sorry
theorem tkZ_spec {t : Nat → Nat} {e p : Nat} (hl : t p < 128) (h : p < e) : p < tkZ t e p ∧ tkZ t e p ≤ e := sorry
theorem sp_loop {t : Nat → Nat} {n e : Nat} (he : e ≤ n) (i d : Nat) (h : mj_H) (hT : CT t n h) (hE : h.1 6 0 5 = nI e) (hi : i ≤ e) (ha : h.1 6 0 6 = nI i) :
    ∃ h', mj_R mg (d + 4) mq_95 (0, [(0, vR 6 0)], [], h) = mj_R mg (d + 4) mq_95 (37, [(0, vR 6 0)], [], h') ∧ cF h h' ∧ h'.1 6 0 6 = nI (spE t e i) := sorry
theorem l_step {t : Nat → Nat} {n b e q d : Nat} {h : mj_H} (hT : CT t n h) (hB : h.1 6 0 4 = nI b) (hE : h.1 6 0 5 = nI e) (ha : h.1 6 0 6 = nI q) (he : e ≤ n) (hb : b ≤ q) (hq : q ≤ e) :
    mP (mj_R mg (d + 4) mq_95 (0, [(0, vR 6 0)], [], h)) (fun v h' => v = none ∧ cF h h' ∧ h'.1 6 0 6 = nI (tkZ t e (spE t e q)) ∧ CTk h' (tkA t b e (spE t e q))) := sorry
