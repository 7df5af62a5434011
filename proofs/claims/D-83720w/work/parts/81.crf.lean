/-! the component's reader: a statement -/
theorem knS_vis {sy : List Sym} {vis : List Nat} {ts : List Tok} {x : Nat × List Tok} (h : knS sy vis ts = .inr x) : x.1 ∈ vis := sorry
theorem q_statement {t : Nat → Nat} {n d np u i : Nat} {h : mj_H} {sy : List Sym} {vis : List Nat} {ts : List Tok} {L : List PL} {pa : List (List Nat)} (a : CX t n h sy vis 0 np u i ts L) (hb : np + ts.length ≤ 3040) (hP : PAc h sy vis pa) : mP (mj_R mg (d + 54) mq_72 (0, [(0, vR 5 0)], [], h)) (fun v h' => pS t n sy vis np u L (np + ts.length) h v h' (stmS pa sy vis ts)) := sorry
