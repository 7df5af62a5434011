/-! the twin's lexer: tokens -/
def TTk (h : mj_H) (k : Tok) : Prop := h.1 15 0 11 = nI k.1 ∧ h.1 15 0 12 = nI k.2.1 ∧ (k.1 = 1 → h.2.1 15 0 14 = lN (bsL 38 (k.2.2.2.map dg38))) ∧ (k.1 = 2 → h.1 15 0 13 = nI k.2.2.1) ∧ (k.1 = 3 → h.1 15 0 13 = nI k.2.2.1) ∧ (k.1 = 4 → h.1 15 0 13 = nI (sgT k.2.2.1))
theorem sgT_lt {c : Nat} (hc : c < 128) : sgT c = c := sorry
theorem us_loop {t : Nat → Nat} {n l b e : Nat} (he : e ≤ n) (i d : Nat) (h : mj_H) (hT : TT t n h) (hL : TL h l b e) (hi : i ≤ e) (ha : h.1 15 0 10 = nI i) :
    ∃ h', mj_R mg (d + 3) mq_212 (0, [(0, vR 15 0)], [], h) = mj_R mg (d + 3) mq_212 (0, [(0, vR 15 0)], [], h') ∧ tF h h' ∧ h'.1 15 0 10 = nI (spE t e i) := sorry
theorem u_next {t : Nat → Nat} {n l b e q d : Nat} {h : mj_H} (hT : TT t n h) (hL : TL h l b e) (ha : h.1 15 0 10 = nI q) (he : e ≤ n) (hb : b ≤ q) (hq : q ≤ e) :
    mP (mj_R mg (d + 3) mq_212 (0, [(0, vR 15 0)], [], h)) (fun v h' => v = none ∧ tF h h' ∧ h'.1 15 0 10 = nI (tkZ t e (spE t e q)) ∧ TTk h' (tkA t b e (spE t e q))) := sorry
