/-! the twin's reader: a declaration's line, whole -/
def dA (sy : List Sym) (sz : Nat) (ts : List Tok) : Rs (List Sym) :=
  bnd (tkS (isW 10 (hd ts) || isW 9 (hd ts)) ts) fun r =>
  bnd (nmsS sy.length (if isW 10 (hd ts) then (if 0 < sz then 9 else 7) else (if 0 < sz then 5 else 2)) sz (r.length + 1) sy r) fun y => dR y.1 y.2
theorem decS_eq (sy : List Sym) (ts : List Tok) : decS sy ts = if isS 91 (hd ts) then bnd (numS 1 64 ts.tail) fun x => bnd (tkS (isS 93 (hd x.2)) x.2) fun r => dA sy x.1 r else dA sy 0 ts := sorry
theorem d35 {t : Nat → Nat} {n D nn u i sz : Nat} {row : Bool} {h h1 : mj_H} {sy : List Sym} {vis : List Nat} {ts : List Tok} {L : List PL} (a : TX t n h1 sy vis 0 nn u i ts L) (g : tW nn sy.length vis.length h h1) (hr : (row = true ∧ 0 < sz) ∨ (row = false ∧ sz = 0)) (hz : sz ≤ 64) :
    mP (mj_R mg (D + 6) mq_247 (35, [(2, vI (bI row)), (1, vI (nI sz)), (0, vR 15 0)], [], h1)) (fun v h' => qD t n vis sy nn u L h v h' (dA sy sz ts)) := sorry
theorem t_decl {t : Nat → Nat} {n D nn u i : Nat} {h : mj_H} {sy : List Sym} {vis : List Nat} {ts : List Tok} {L : List PL} (a : TX t n h sy vis 0 nn u i ts L) (hD : 7 ≤ D) :
    mP (mj_R mg D mq_247 (0, [(0, vR 15 0)], [], h)) (fun v h' => qD t n vis sy nn u L h v h' (decS sy ts)) := sorry
