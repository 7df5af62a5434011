/-! the component's reader: ALT -/
theorem alB135 {t : Nat → Nat} {n d c g B : Nat} {x1 x3 x4 s0 : Int32} {h h1 : mj_H} {f : Flt} (b : pX t n h h1 f B) (hc : c < 3100) (hg : g < 3100) (h5 : x3 = -1 ∨ ∃ l, l < 3100 ∧ x3 = nI l) : mP (mj_R mg (d + 1) mq_83 (135, [(5, vI (nI g)), (4, vI x4), (3, vI x3), (2, vI (nI c)), (0, vR 5 0), (1, vI x1)], [vI s0, vI (nI g), vR 25 0], h1)) (pXv t n h f B) := sorry
theorem alB104 {t : Nat → Nat} {n d c g B : Nat} {x1 x3 x4 : Int32} {h h1 : mj_H} {f : Flt} (b : pX t n h h1 f B) (hc : c < 3100) (hg : g < 3100) (h5 : x3 = -1 ∨ ∃ l, l < 3100 ∧ x3 = nI l) : mP (mj_R mg (d + 7) mq_83 (104, [(5, vI (nI g)), (4, vI x4), (3, vI x3), (2, vI (nI c)), (0, vR 5 0), (1, vI x1)], [], h1)) (pXv t n h f B) := sorry
theorem alB72 {t : Nat → Nat} {n d c : Nat} {x1 x3 x4 : Int32} {h h1 : mj_H} {f : Flt} (b : pX t n h h1 f 3060) (hc : c < 3100) (h5 : x3 = -1 ∨ ∃ l, l < 3100 ∧ x3 = nI l) : mP (mj_R mg (d + 7) mq_83 (72, [(4, vI x4), (3, vI x3), (2, vI (nI c)), (0, vR 5 0), (1, vI x1)], [], h1)) (pXv t n h f 3070) := sorry
def altB (P : PrP) (lv : Nat) (vis : List Nat) (m many : Nat) (sy : List Sym) (L : List PL) : PrR := match L with
  | [] => .inl (0, none)
  | l :: L2 =>
    bnd (lft l.1 (grdS sy vis l.2.2)) fun g =>
    bnd (P (lv + 2) vis sy L2) fun x =>
    bnd (altS P lv vis m (many + 1) x.2.1 x.2.2) fun y =>
    .inr (.elem (.div (.index l.1) (.elem g.1 (.elem g.2.1 (.elem g.2.2 x.1)))) y.1, y.2)
theorem altS_s (P : PrP) (lv : Nat) (vis : List Nat) (m many : Nat) (sy : List Sym) (L : List PL) : altS P lv vis (m + 1) many sy L =
    if many = 0 ∨ isAt (lv + 1) L = true then
      if isAt (lv + 1) L then
        if many = 8 then .inl (lvlF L) else altB P lv vis m many sy L
      else .inl (lvlF L)
    else .inr (.null, sy, L) := sorry
theorem al_loop {t : Nat → Nat} {n d m lv w u c bd : Nat} {h : mj_H} {sy : List Sym} {vis : List Nat} {L0 : List PL} {pa : List (List Nat)} (PK : PrK pa m) (hbd : bd ≤ 3030) (hm : (17 - lv) + (200 - sy.length) ≤ m + 1) (hlv : lv ≤ 15) (hL0 : L0.length ≤ 2990) (hF0 : ∀ y ∈ L0, frs y) : ∀ (M many : Nat) (h1 : mj_H) (sy1 : List Sym) (np1 : Nat) (L1 : List PL) (ps : List Tm) (x3 : Int32), CY t n h1 sy1 vis np1 L1 → PAc h1 sy1 vis pa → gP c sy.length vis.length h h1 → sX sy sy1 → nS w u c h1 → rowI nG c np1 h1 ps x3 → many = ps.length → c < np1 → np1 + wt L1 ≤ bd → L1 <:+ L0 → many ≤ 8 → L1.length + 1 + (if ps = [] then 1 else 0) ≤ M →
    mP (mj_R mg (d + 4 * m + 62) mq_83 (32, [(4, vI (nI many)), (3, vI x3), (2, vI (nI c)), (0, vR 5 0), (1, vI (nI lv))], [], h1)) (fun v h' => pV t n vis sy w u c bd 3 L0 ps h v h' (altS (proS pa m) lv vis M many sy1 L1)) := sorry
theorem q_alternative {t : Nat → Nat} {n d m lv u i np bd : Nat} {h : mj_H} {sy : List Sym} {vis : List Nat} {ts : List Tok} {L : List PL} {pa : List (List Nat)} (PK : PrK pa m) (hbd : bd ≤ 3030) (hlv : lv ≤ 15) (hm : (16 - lv) + (200 - sy.length) ≤ m) (hL : L.length ≤ 2990) (hF : ∀ y ∈ L, frs y) (a : CX t n h sy vis 0 np u i ts L) (hP : PAc h sy vis pa) (hne : (hd ts).1 ≠ 0) (hb : np + ts.length + wt L ≤ bd) :
    mP (mj_R mg (d + 4 * m + 62) mq_83 (0, [(0, vR 5 0), (1, vI (nI lv))], [], h)) (fun v h' => pP t n vis sy np bd L h v h' (bnd (lft u (endS ts.tail)) fun _ => bnd (altS (proS pa m) lv vis (L.length + 2) 0 sy L) fun x => .inr (.div (.index u) (.rem .result x.1), x.2))) := sorry
