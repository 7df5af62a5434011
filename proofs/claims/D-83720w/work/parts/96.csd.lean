/-! the component's reader: a process -/
theorem lft_r {α : Type} (u : Nat) (a : α) : lft u (.inr a) = .inr a := sorry
theorem bnd_r {ε α β : Type} (a : α) (f : α → Sum ε β) : bnd (.inr a) f = f a := sorry
theorem mP_ix {x : Option mj_O} {Q : Option mj_V → mj_H → Prop} (p : mP x Q) (hQ : ∀ v h, Q v h → ∃ r, v = some (vI r)) : mP (mj_xi x (fun r h => some (.inl (some (vI r), h)))) Q := sorry
theorem pP_v {t : Nat → Nat} {n np bd : Nat} {vis : List Nat} {sy : List Sym} {L : List PL} {h : mj_H} {X : PrR} (v : Option mj_V) (h' : mj_H) (p : pP t n vis sy np bd L h v h' X) : ∃ r, v = some (vI r) := sorry
theorem q_skip {t : Nat → Nat} {n d m u i np bd w : Nat} {h : mj_H} {sy : List Sym} {vis : List Nat} {ts : List Tok} {L : List PL} {Q : Tm} (hbd : bd ≤ 3030) (a : CX t n h sy vis 0 np u i ts L) (hne : (hd ts).1 ≠ 0) (hb : np + ts.length + wt L ≤ bd) (hQ : ∀ lo hi g k, rN u lo hi g k w → rQ lo hi g (.div (.index u) Q) 0 (nI k)) :
    mP (mj_xi (mj_R mg (d + 4 * m + 62) mq_35 (0, [(0, vR 4 0), (1, vR 17 w), (2, vI (h.1 6 0 3))], [], h)) (fun r1 h1 => mj_xv (mj_R mg (d + 4 * m + 62) mq_40 (0, [(0, vR 5 0), (1, vI 1)], [], h1)) (fun h2 => mj_xv (mj_R mg (d + 4 * m + 62) mq_44 (0, [(0, vR 5 0)], [], h2)) (fun h3 => some (.inl (some (vI r1), h3)))))) (fun v h' => pP t n vis sy np bd L h v h' (bnd (lft u (endS ts.tail)) fun _ => .inr (.div (.index u) Q, sy, L))) := sorry
theorem isW_eq {k : Tok} (h : k.1 = 2) (j : Nat) : isW j k = (k.2.2.1 == j) := sorry
theorem q_constructed {t : Nat → Nat} {n d m lv u i np bd : Nat} {h : mj_H} {sy : List Sym} {vis : List Nat} {ts : List Tok} {L : List PL} {pa : List (List Nat)} (PK : PrK pa m) (hbd : bd ≤ 3030) (hlv : lv ≤ 15) (hm : (16 - lv) + (200 - sy.length) ≤ m) (hL : L.length ≤ 2990) (hF : ∀ y ∈ L, frs y) (a : CX t n h sy vis 0 np u i ts L) (hP : PAc h sy vis pa) (hk : (hd ts).1 = 2) (hb : np + ts.length + wt L ≤ bd) :
    mP (mj_R mg (d + 4 * m + 63) mq_75 (0, [(0, vR 5 0), (1, vI (nI lv))], [], h)) (fun v h' => pP t n vis sy np bd L h v h' (bnd (conS (proS pa m) lv vis sy u ts L) fun x => .inr (.div (.index u) x.1, x.2))) := sorry
theorem conS_no {P : PrP} {lv : Nat} {vis : List Nat} {sy : List Sym} {u : Nat} {ts : List Tok} {L : List PL} (h : (hd ts).1 ≠ 2) : conS P lv vis sy u ts L = .inl (1, some (u, (hd ts).2.1)) := sorry
theorem proS_s (pa : List (List Nat)) (m lv : Nat) (vis : List Nat) (sy : List Sym) (L : List PL) : proS pa (m + 1) lv vis sy L =
    if isAt lv L then
      match L with
      | [] => .inl (0, none)
      | (u, _, ts) :: L2 =>
        bnd (if isW 9 (hd ts) || isW 10 (hd ts) || isS 91 (hd ts) then
            bnd (lft u (decS sy ts)) fun sy2 =>
            bnd (proS pa m lv (seeS vis sy.length (sy2.length - sy.length)) sy2 L2) fun x =>
            .inr (.rem (.elem (.index sy.length) (.index (sy2.length - sy.length))) x.1, x.2)
          else if (hd ts).1 = 1 then bnd (lft u (stmS pa sy vis ts)) fun a => .inr (a, sy, L2)
          else conS (proS pa m) lv vis sy u ts L2) fun x =>
        .inr (.div (.index u) x.1, x.2)
    else .inl (lvlF L) := sorry
theorem PrK_all (pa : List (List Nat)) : ∀ m, PrK pa m := sorry
