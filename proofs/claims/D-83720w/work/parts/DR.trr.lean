/-! the twin's reader: a process -/
def prB (pa : List (List Nat)) (m lv : Nat) (vis : List Nat) (sy : List Sym) (u : Nat) (ts : List Tok) (L : List PL) : PrR :=
  if isW 9 (hd ts) || isW 10 (hd ts) || isS 91 (hd ts) then
    bnd (lft u (decS sy ts)) fun sy2 =>
    bnd (proS pa m lv (seeS vis sy.length (sy2.length - sy.length)) sy2 L) fun x =>
    .inr (.rem (.elem (.index sy.length) (.index (sy2.length - sy.length))) x.1, x.2)
  else stS pa m lv vis sy u ts L
theorem proS_B (pa : List (List Nat)) (m lv : Nat) (vis : List Nat) (sy : List Sym) (u i : Nat) (ts : List Tok) (L : List PL) (h : isAt lv ((u, i, ts) :: L) = true) : proS pa (m + 1) lv vis sy ((u, i, ts) :: L) = bnd (prB pa m lv vis sy u ts L) fun x => .inr (.div (.index u) x.1, x.2) := sorry
def fDc (cc s : Nat) : Nat := if cc = 0 then 0 else s
theorem pr_bad27 {D : Nat} {x1 x2 x3 x4 : Int32} {h h1 : mj_H} {f : Flt} (b : tX h h1 f) : mP (mj_R mg (D + 1) mq_245 (27, [(4, vI x4), (3, vI x3), (2, vI x2), (0, vR 15 0), (1, vI x1)], [], h1)) (tXv h f) := sorry
theorem pr_loop {t : Nat → Nat} {n D lv nn bd : Nat} {h : mj_H} {sy0 : List Sym} {vis0 : List Nat} {L0 : List PL} {pa : List (List Nat)} (hbd : bd ≤ 3300) (hlv : lv ≤ 15) (hL0 : L0.length ≤ 2990) : ∀ (m : Nat), (∀ k, k ≤ m → TrK pa k) → 4 * m + 83 ≤ D → ∀ (cc : Nat) (h1 : mj_H) (pre : List Nat) (sy1 : List Sym) (u i : Nat) (ts : List Tok) (L1 : List PL), TX t n h1 sy1 (pre ++ vis0) 0 nn u i ts L1 → TPA h1 sy1 (pre ++ vis0) pa → tW nn sy0.length vis0.length h h1 → sX sy0 sy1 → sy1.length = sy0.length + cc → (17 - lv) + (200 - sy1.length) ≤ m + 1 → nn + ts.length + wt L1 ≤ bd → L1 <:+ L0 →
    mP (mj_R mg (D + 1) mq_245 (27, [(4, vI (nI cc)), (3, vI (nI (sy0.length + 2))), (2, vI (nI vis0.length)), (0, vR 15 0), (1, vI (nI lv))], [], h1)) (fun v h' => qP t n pa vis0 sy0 nn bd lv L0 (fDc cc sy0.length) cc h v h' (bnd (prB pa m lv (pre ++ vis0) sy1 u ts L1) fun x => .inr (.div (.index u) x.1, x.2))) := sorry
theorem TrK_all (pa : List (List Nat)) : ∀ m, TrK pa m := sorry
