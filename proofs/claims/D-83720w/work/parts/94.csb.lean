/-! the component's reader: IF -/
def pV (t : Nat → Nat) (n : Nat) (vis : List Nat) (sy : List Sym) (w u c bd md : Nat) (L0 : List PL) (ps : List Tm) (h : mj_H) (v : Option mj_V) (h' : mj_H) : PrR → Prop
  | .inl f => (∃ r, v = some (vI r)) ∧ pX t n h h' f 3070
  | .inr x => v = some (vI (nI c)) ∧ ∃ np', CY t n h' x.2.1 vis np' x.2.2 ∧ gP c sy.length vis.length h h' ∧ sX sy x.2.1 ∧ nS w u c h' ∧ rQ (c + 1) np' h' (apL ps x.1) md (h'.1 23 0 c) ∧ c < np' ∧ np' + wt x.2.2 ≤ bd ∧ x.2.2 <:+ L0
theorem isAt_lv {lv : Nat} {L : List PL} (h : isAt lv L = true) : lv ≤ 15 ∧ ∃ u i ts r, L = (u, i, ts) :: r := sorry
theorem q_lastB {d c : Nat} {x : Int32} {g : Int32} {h : mj_H} (hc : c < 3100) (h5 : x = -1 ∨ ∃ l, l < 3100 ∧ x = nI l) : ∃ k j, (k = 23 ∨ k = 27) ∧ mj_R mg d mq_82 (0, [(0, vR 5 0), (1, vI (nI c)), (2, vI x), (3, vI g)], [], h) = some (.inl (some (vI g), mj_sI h k 0 j g)) := sorry
theorem chB133 {t : Nat → Nat} {n d c g B : Nat} {x1 x3 s0 : Int32} {h h1 : mj_H} {f : Flt} (b : pX t n h h1 f B) (hc : c < 3100) (hg : g < 3100) (h5 : x3 = -1 ∨ ∃ l, l < 3100 ∧ x3 = nI l) : mP (mj_R mg (d + 1) mq_81 (133, [(4, vI (nI g)), (3, vI x3), (2, vI (nI c)), (0, vR 5 0), (1, vI x1)], [vI s0, vI (nI g), vR 25 0], h1)) (pXv t n h f B) := sorry
theorem chB101 {t : Nat → Nat} {n d c g B : Nat} {x1 x3 s0 : Int32} {h h1 : mj_H} {f : Flt} (b : pX t n h h1 f B) (hc : c < 3100) (hg : g < 3100) (h5 : x3 = -1 ∨ ∃ l, l < 3100 ∧ x3 = nI l) : mP (mj_R mg (d + 7) mq_81 (101, [(4, vI (nI g)), (3, vI x3), (2, vI (nI c)), (0, vR 5 0), (1, vI x1)], [vI s0, vI (nI g), vR 23 0], h1)) (pXv t n h f B) := sorry
def ifsB (P : PrP) (lv : Nat) (vis : List Nat) (m : Nat) (sy : List Sym) (L : List PL) : PrR := match L with
  | [] => .inl (0, none)
  | l :: L2 =>
    bnd (lft l.1 (bnd (exT sy vis 0 l.2.2) fun e => bnd (endS e.2) fun _ => .inr e.1)) fun e =>
    bnd (P (lv + 2) vis sy L2) fun x =>
    bnd (ifsS P lv vis m false x.2.1 x.2.2) fun y =>
    .inr (.elem (.elem e x.1) y.1, y.2)
theorem ifsS_s (P : PrP) (lv : Nat) (vis : List Nat) (m : Nat) (more : Bool) (sy : List Sym) (L : List PL) : ifsS P lv vis (m + 1) more sy L =
    if more || isAt (lv + 1) L then
      if isAt (lv + 1) L then ifsB P lv vis m sy L else .inl (lvlF L)
    else .inr (.null, sy, L) := sorry
theorem ch_loop {t : Nat → Nat} {n d m lv w u c bd : Nat} {h : mj_H} {sy : List Sym} {vis : List Nat} {L0 : List PL} {pa : List (List Nat)} (PK : PrK pa m) (hbd : bd ≤ 3030) (hm : (17 - lv) + (200 - sy.length) ≤ m + 1) (hlv : lv ≤ 15) (hL0 : L0.length ≤ 2990) (hF0 : ∀ y ∈ L0, frs y) : ∀ (M : Nat) (h1 : mj_H) (sy1 : List Sym) (np1 : Nat) (L1 : List PL) (ps : List Tm) (x3 : Int32), CY t n h1 sy1 vis np1 L1 → PAc h1 sy1 vis pa → gP c sy.length vis.length h h1 → sX sy sy1 → nS w u c h1 → rowI nC c np1 h1 ps x3 → c < np1 → np1 + wt L1 ≤ bd → L1 <:+ L0 → L1.length + 1 + (if ps = [] then 1 else 0) ≤ M →
    mP (mj_R mg (d + 4 * m + 62) mq_81 (29, [(3, vI x3), (2, vI (nI c)), (0, vR 5 0), (1, vI (nI lv))], [], h1)) (fun v h' => pV t n vis sy w u c bd 2 L0 ps h v h' (ifsS (proS pa m) lv vis M (decide (ps = [])) sy1 L1)) := sorry
theorem q_choices {t : Nat → Nat} {n d m lv u i np bd : Nat} {h : mj_H} {sy : List Sym} {vis : List Nat} {ts : List Tok} {L : List PL} {pa : List (List Nat)} (PK : PrK pa m) (hbd : bd ≤ 3030) (hlv : lv ≤ 15) (hm : (16 - lv) + (200 - sy.length) ≤ m) (hL : L.length ≤ 2990) (hF : ∀ y ∈ L, frs y) (a : CX t n h sy vis 0 np u i ts L) (hP : PAc h sy vis pa) (hne : (hd ts).1 ≠ 0) (hb : np + ts.length + wt L ≤ bd) :
    mP (mj_R mg (d + 4 * m + 62) mq_81 (0, [(0, vR 5 0), (1, vI (nI lv))], [], h)) (fun v h' => pP t n vis sy np bd L h v h' (bnd (lft u (endS ts.tail)) fun _ => bnd (ifsS (proS pa m) lv vis (L.length + 2) true sy L) fun x => .inr (.div (.index u) (.rem .null x.1), x.2))) := sorry
