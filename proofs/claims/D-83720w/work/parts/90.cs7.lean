/-! the component's reader: processes below -/
theorem q_wrongL {t : Nat → Nat} {n d : Nat} {L : List PL} {h : mj_H} (a : CQ t n h L) (hG : h.1 5 0 2 = 0) (hf : ∀ y ∈ L, frs y) : mj_R mg (d + 3) mq_39 (0, [(0, vR 5 0)], [], h) = some (.inl (none, fl h (lvlF L))) := sorry
theorem pX_fl {t : Nat → Nat} {n np B : Nat} {h : mj_H} {sy : List Sym} {vis : List Nat} {L : List PL} (a : CY t n h sy vis np L) (f : Flt) (hk : f.1 ≠ 0) (hk2 : f.1 < 10) (hB : np ≤ B) : pX t n h (fl h f) f B := sorry
theorem lvlF_1 (L : List PL) : (lvlF L).1 = 1 := sorry
abbrev pXn (t : Nat → Nat) (n : Nat) (h : mj_H) (f : Flt) (B : Nat) (v : Option mj_V) (h' : mj_H) : Prop := v = none ∧ pX t n h h' f B
theorem bl54B {t : Nat → Nat} {n d c B : Nat} {x2 x3 x4 x5 x6 s0 : Int32} {h h1 : mj_H} {f : Flt} (b : pX t n h h1 f B) (hc : c < 3100) (h5 : x5 = -1 ∨ ∃ l, l < 3100 ∧ x5 = nI l) : mP (mj_R mg (d + 1) mq_76 (54, [(6, vI x6), (5, vI x5), (0, vR 5 0), (1, vI (nI c)), (2, vI x2), (3, vI x3), (4, vI x4)], [vI s0], h1)) (pXn t n h f B) := sorry
def apL (ps : List Tm) (x : Tm) : Tm := ps.foldr (fun a r => .elem a r) x
theorem apL_app (ps : List Tm) (a x : Tm) : apL (ps ++ [a]) x = apL ps (.elem a x) := sorry
theorem apL_tm : ∀ ps : List Tm, apL ps .null = tmL ps := sorry
def rowI (N : mem) (c np : Nat) (h : mj_H) (ps : List Tm) (x : Int32) : Prop := (ps = [] ∧ x = -1 ∧ h.1 23 0 c = -1) ∨ ∃ l, x = nI l ∧ rowN N h (c + 1) ps (h.1 23 0 c) l np
theorem rowI.mv {N : mem} (hN : mvN N) {c np : Nat} {h h' : mj_H} {ps : List Tm} {x : Int32} (a : rowI N c np h ps x) (f : gK c np h h') (hc : c < np) : rowI N c np h' ps x := sorry
theorem rowI.x {N : mem} {c np : Nat} {h : mj_H} {ps : List Tm} {x : Int32} (a : rowI N c np h ps x) (hn : np ≤ 3100) : x = -1 ∨ ∃ l, l < 3100 ∧ x = nI l := sorry
theorem rowI.last {N : mem} {c np : Nat} {h : mj_H} {ps : List Tm} {x : Int32} (a : rowI N c np h ps x) (hn : np ≤ 3100) : x = -1 ↔ ps = [] := sorry
/-- one more member, at k2: what is written for it -/
theorem rowI_step {N : mem} (hN : mvN N) {c np np2 k2 : Nat} {h : mj_H} {ps : List Tm} {b : Tm} {x : Int32} (a : rowI N c np h ps x) (hb : zN N h np np2 b k2) (hc : c < np) (h1 : np ≤ k2) (h2 : k2 < np2) (h3 : h.1 27 0 k2 = -1) :
    (x = -1 ∧ rowI N c np2 (mj_sI h 23 0 c (nI k2)) (ps ++ [b]) (nI k2)) ∨ ∃ l, x = nI l ∧ c < l ∧ l < np ∧ rowI N c np2 (mj_sI h 27 0 l (nI k2)) (ps ++ [b]) (nI k2) := sorry
theorem rZ.z {lo hi k : Nat} {h : mj_H} {A : Tm} (a : rZ lo hi h A k) : zN nP h lo hi A k := sorry
def pW (t : Nat → Nat) (n : Nat) (vis : List Nat) (sy : List Sym) (w u c bd md : Nat) (L0 : List PL) (ps : List Tm) (h : mj_H) (v : Option mj_V) (h' : mj_H) : PrR → Prop
  | .inl f => v = none ∧ pX t n h h' f 3070
  | .inr x => v = none ∧ ∃ np', CY t n h' x.2.1 vis np' x.2.2 ∧ gP c sy.length vis.length h h' ∧ sX sy x.2.1 ∧ nS w u c h' ∧ rQ (c + 1) np' h' (apL ps x.1) md (h'.1 23 0 c) ∧ c < np' ∧ np' + wt x.2.2 ≤ bd ∧ x.2.2 <:+ L0
theorem proS_cons {pa : List (List Nat)} {m lv : Nat} {vis : List Nat} {sy : List Sym} {L : List PL} {x : Tm × List Sym × List PL} (h : proS pa m lv vis sy L = .inr x) : ∃ y r, L = y :: r := sorry
theorem suf_len {α : Type} {a b : List α} (h : a <:+ b) : a.length ≤ b.length := sorry
theorem suf_mem {α : Type} {a b : List α} (h : a <:+ b) {x : α} (hx : x ∈ a) : x ∈ b := sorry
theorem wt_suf {a b : List PL} (h : a <:+ b) : wt a ≤ wt b := sorry
theorem bl_loop {t : Nat → Nat} {n d m lv w u c bd least mJ mS : Nat} {h : mj_H} {sy : List Sym} {vis : List Nat} {L0 : List PL} {pa : List (List Nat)} (PK : PrK pa m) (hbd : bd ≤ 3030) (hlv : lv ≤ 16) (hm : (17 - lv) + (200 - sy.length) ≤ m) (hmost : ∀ k, k ≤ 2995 → (k = mJ ↔ k = mS)) (hmJ : mJ < 2 ^ 31) (hle : least ≤ 2) (hL0 : L0.length ≤ 2990) (hF0 : ∀ y ∈ L0, frs y) : ∀ (M many : Nat) (h1 : mj_H) (sy1 : List Sym) (np1 : Nat) (L1 : List PL) (ps : List Tm) (x5 : Int32), CY t n h1 sy1 vis np1 L1 → PAc h1 sy1 vis pa → gP c sy.length vis.length h h1 → sX sy sy1 → nS w u c h1 → rowI nP c np1 h1 ps x5 → many = ps.length → c < np1 → np1 + wt L1 ≤ bd → L1 <:+ L0 → many + L1.length ≤ 2992 → L1.length + 1 + (least - many) ≤ M →
    mP (mj_R mg (d + 4 * m + 61) mq_76 (6, [(6, vI (nI many)), (5, vI x5), (0, vR 5 0), (1, vI (nI c)), (2, vI (nI lv)), (3, vI (nI least)), (4, vI (nI mJ))], [], h1)) (fun v h' => pW t n vis sy w u c bd 1 L0 ps h v h' (blwS (proS pa m) lv vis least mS M many sy1 L1)) := sorry
