/-! the component's lexer: numbers, signs, words -/
def nvF (t : Nat → Nat) (f : Nat) : Nat → Nat
  | 0 => 0
  | k + 1 => 10 * nvF t f k + (t (f + k) - 48)
theorem nvF_lt {t : Nat → Nat} {f : Nat} : ∀ k, (∀ j, j < k → isDg (t (f + j)) = true) → nvF t f k < 10 ^ k := sorry
/-- the number of the digits from f to j: the first ten count -/
def nvE (t : Nat → Nat) (f j : Nat) : Nat := nvF t f (min (j - f) 10)
theorem nu_loop {t : Nat → Nat} {n e f : Nat} (he : e ≤ n) (i d : Nat) (h : mj_H) (hT : CT t n h) (hE : h.1 6 0 5 = nI e) (hf : f ≤ i) (hi : i ≤ e) (ha : h.1 6 0 6 = nI i) (hdg : ∀ j, f ≤ j → j < i → isDg (t j) = true) :
    mP (mj_R mg (d + 3) mq_98 (7, [(2, vL (lN (nvE t f i))), (1, vI (nI f)), (0, vR 6 0)], [], h)) (fun v h' => v = none ∧ cF h h' ∧ h'.1 6 0 6 = nI (skE (fun k => isDg (t k)) e i) ∧ h'.1 6 0 10 = nI (if 10 < skE (fun k => isDg (t k)) e i - f ∨ 2147483647 < nvE t f (skE (fun k => isDg (t k)) e i) then 5 else 3) ∧ h'.1 6 0 15 = nI (nvE t f (skE (fun k => isDg (t k)) e i)) ∧ h'.1 6 0 11 = h.1 6 0 11) := sorry
theorem l_number {t : Nat → Nat} {n e f d : Nat} {h : mj_H} (he : e ≤ n) (hT : CT t n h) (hE : h.1 6 0 5 = nI e) (hf : f ≤ e) (ha : h.1 6 0 6 = nI f) :
    mP (mj_R mg (d + 3) mq_98 (0, [(0, vR 6 0)], [], h)) (fun v h' => v = none ∧ cF h h' ∧ h'.1 6 0 6 = nI (skE (fun k => isDg (t k)) e f) ∧ h'.1 6 0 10 = nI (if 10 < skE (fun k => isDg (t k)) e f - f ∨ 2147483647 < nvE t f (skE (fun k => isDg (t k)) e f) then 5 else 3) ∧ h'.1 6 0 15 = nI (nvE t f (skE (fun k => isDg (t k)) e f)) ∧ h'.1 6 0 11 = h.1 6 0 11) := sorry
theorem ifc {P Q : Prop} [Decidable P] [Decidable Q] {α : Type} (A B : α) : (if P then A else (if Q then A else B)) = if P ∨ Q then A else B := sorry
/-- signs of two, and signs -/
def sgL (c d : Nat) : Bool := decide (c * 256 + d = 14909 ∨ c * 256 + d = 15422 ∨ c * 256 + d = 15421 ∨ c * 256 + d = 15933 ∨ c * 256 + d = 15420 ∨ c * 256 + d = 15934 ∨ c * 256 + d = 12124 ∨ c * 256 + d = 23599)
def sgJ (c : Nat) : Bool := decide (c = 33 ∨ c = 63 ∨ c = 44 ∨ c = 58 ∨ c = 40 ∨ c = 41 ∨ c = 91 ∨ c = 93 ∨ c = 61)
def sgK (c : Nat) : Bool := decide (sgJ c = true ∨ c = 60 ∨ c = 62 ∨ c = 43 ∨ c = 45 ∨ c = 42 ∨ c = 47 ∨ c = 92 ∨ c = 38)
theorem bI_ite {α : Type} (P : Prop) [Decidable P] (f : Int32 → α) : (if P then f 1 else f 0) = f (bI (decide P)) := sorry
theorem bI_n0 (b : Bool) : (¬ bI b = 0) ↔ b = true := sorry
theorem nI_pack {a c : Nat} (ha : a < 128) (hc : c < 256) : nI (a * 2 ^ 8) ||| nI c = nI (a * 256 + c) := sorry
theorem c_two {a b d : Nat} {h : mj_H} (ha : a < 128) (hb : b < 128) : mj_R mg d mq_4 (0, [(0, vI (nI a)), (1, vI (nI b))], [], h) = some (.inl (some (vI (nI (a * 256 + b))), h)) := sorry
theorem l_sign {t : Nat → Nat} {n e f d : Nat} {h : mj_H} (he : e ≤ n) (hT : CT t n h) (hE : h.1 6 0 5 = nI e) (hf : f < e) (ha : h.1 6 0 6 = nI f) :
    mP (mj_R mg (d + 3) mq_99 (0, [(0, vR 6 0), (1, vI (nI (t f)))], [], h)) (fun v h' => v = none ∧ cF h h' ∧ h'.1 6 0 6 = nI (f + (bif sgL (t f) (chE t e (f + 1)) then 2 else 1)) ∧ h'.1 6 0 10 = nI (bif sgL (t f) (chE t e (f + 1)) || sgK (t f) then 4 else 5) ∧ h'.1 6 0 16 = nI (bif sgL (t f) (chE t e (f + 1)) then t f * 256 + chE t e (f + 1) else t f) ∧ h'.1 6 0 11 = h.1 6 0 11) := sorry
