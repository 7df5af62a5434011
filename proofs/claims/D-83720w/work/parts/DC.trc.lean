/-! the twin's reader: a line that begins with a name, whole -/
theorem t_named {t : Nat → Nat} {n D nn u i : Nat} {h : mj_H} {sy : List Sym} {vis : List Nat} {ts : List Tok} {L : List PL} {pa : List (List Nat)} (a : TX t n h sy vis 0 nn u i ts L) (hb : nn + ts.length ≤ 3390) (hP : TPA h sy vis pa) (h1 : (hd ts).1 = 1) (hD : 71 ≤ D) :
    mP (mj_R mg D mq_257 (0, [(0, vR 15 0)], [], h)) (fun v h' => qS t n pa sy vis nn u L (nn + ts.length) h v h' (stmS pa sy vis ts)) := sorry
