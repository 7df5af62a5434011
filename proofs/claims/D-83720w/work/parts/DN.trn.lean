/-! the twin's reader: IF -/
theorem TY.op {t : Nat → Nat} {n d nn : Nat} {h : mj_H} {sy : List Sym} {vis : List Nat} {x : PL} {L : List PL} (a : TY t n h sy vis nn (x :: L)) : mP (mj_R mg (d + 4) mq_211 (0, [(0, vR 15 0)], [], h)) (fun v h' => v = none ∧ tG h h' ∧ TX t n h' sy vis 0 nn x.1 x.2.1 x.2.2 L) := sorry
def qV (t : Nat → Nat) (n : Nat) (pa : List (List Nat)) (vis : List Nat) (sy : List Sym) (c bd lv md : Nat) (L0 : List PL) (ps : List Tm) (E : mj_H → Tm → Prop) (h0 h : mj_H) (v : Option mj_V) (h' : mj_H) : PrR → Prop
  | .inl e => tXv h e v h'
  | .inr x => (v = some (vI (nI c)) ∧ ∃ nn', TY t n h' x.2.1 vis nn' x.2.2 ∧ tW c sy.length vis.length h h' ∧ sX sy x.2.1 ∧ (∀ g, 87 ≤ g ∧ g ≤ 100 → g ≠ 90 → g ≠ 93 → h'.1 g 0 c = h0.1 g 0 c) ∧ E h' x.1 ∧ tQ pa (c + 1) nn' h' (apL ps x.1) md 0 0 (h'.1 93 0 c) ∧ c < nn' ∧ nn' + wt x.2.2 ≤ bd ∧ x.2.2 <:+ L0) ∨ (stk (lv + 1) x.2.2 = true ∧ tXv h (lvlF x.2.2) v h')
/-- one more member of a row -/
theorem t_add {N : mem} (hN : mvM N) {c np np2 k2 d : Nat} {h : mj_H} {ps : List Tm} {b : Tm} {x : Int32} (a : rowJ N c np h ps x) (hb : zM N h np np2 b k2) (hc : c < np) (h1 : np ≤ k2) (h2 : k2 < np2) (h3 : h.1 94 0 k2 = 0) (hp : np2 ≤ 7000) :
    ∃ h' g j, mj_R mg d mq_253 (0, [(0, vR 15 0), (1, vI (nI c)), (2, vI x), (3, vI (nI k2))], [], h) = some (.inl (none, h')) ∧ rowJ N c np2 h' (ps ++ [b]) (nI k2) ∧ h' = mj_sI h g 0 j (nI k2) ∧ ((g = 93 ∧ j = c) ∨ (g = 94 ∧ c < j ∧ j < np)) := sorry
def nCt (pa : List (List Nat)) : mem := fun h lo hi a k => match a with
  | .elem e p => ∃ u j m, tM u lo hi h k 34 ∧ (lo ≤ m ∧ m ≤ hi) ∧ h.1 89 0 k = nI j ∧ tE u lo m h e j ∧ tQ pa m hi h p 0 0 0 (h.1 93 0 k)
  | _ => False
theorem nCt_mv (pa : List (List Nat)) : mvM (nCt pa) := sorry
theorem rowt_2 {pa : List (List Nat)} {h : mj_H} : ∀ {as : List Tm} {lo : Nat} {x : Int32} {l hi : Nat}, rowM (nCt pa) h lo as x l hi → ∀ lo', lo' ≤ lo → tQ pa lo' hi h (tmL as) 2 0 0 x := sorry
theorem ifs_at {pa : List (List Nat)} {m lv M : Nat} {vis : List Nat} {sy : List Sym} {L : List PL} {more : Bool} (h : isAt (lv + 1) L = false) : ifsS (proS pa m) lv vis (M + 1) more sy L = if more then .inl (lvlF L) else .inr (.null, sy, L) := sorry
theorem if_loop {t : Nat → Nat} {n D m lv c bd : Nat} {h0 h : mj_H} {sy : List Sym} {vis : List Nat} {L0 : List PL} {pa : List (List Nat)} (PK : TrK pa m) (hbd : bd ≤ 3300) (hlv : lv ≤ 15) (hm : (16 - lv) + (200 - sy.length) ≤ m) (hL0 : L0.length ≤ 2990) (hD : 4 * m + 80 ≤ D) : ∀ (M : Nat) (h1 : mj_H) (sy1 : List Sym) (nn1 : Nat) (L1 : List PL) (ps : List Tm) (x3 : Int32), TY t n h1 sy1 vis nn1 L1 → TPA h1 sy1 vis pa → tW c sy.length vis.length h h1 → sX sy sy1 → (∀ g, 87 ≤ g ∧ g ≤ 100 → g ≠ 90 → g ≠ 93 → h1.1 g 0 c = h0.1 g 0 c) → rowJ (nCt pa) c nn1 h1 ps x3 → c < nn1 → nn1 + wt L1 ≤ bd → L1 <:+ L0 → L1.length + 1 ≤ M →
    mP (mj_R mg (D + 1) mq_254 (21, [(3, vI x3), (2, vI (nI c)), (0, vR 15 0), (1, vI (nI lv))], [], h1)) (fun v h' => qV t n pa vis sy c bd lv 2 L0 ps (fun _ _ => True) h0 h v h' (ifsS (proS pa m) lv vis M (decide (ps = [])) sy1 L1)) := sorry
