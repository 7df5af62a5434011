/-! the component's reader: operands and expressions -/
theorem o_num {t : Nat → Nat} {n d br np u i : Nat} {v : Int32} {h : mj_H} {sy : List Sym} {vis : List Nat} {ts : List Tok} {L : List PL} (a : CX t n h sy vis br np u i ts L) (hb : np + ts.length ≤ 3040) (h0 : (hd ts).1 ≠ 0) : mP (mj_R mg (d + 6) mq_65 (102, [(1, vI (nI np)), (0, vR 5 0)], [vI v, vI (nI np), vR 26 0], adP h np 16 (nI u))) (fun w h' => pE t n sy vis br np u i L (np + ts.length) h w h' (.inr (.int v, ts.tail))) := sorry
theorem isW_k {w : Nat} {k : Tok} : isW w k = true ↔ k.1 = 2 ∧ k.2.2.1 = w := sorry
theorem isS_k {w : Nat} {k : Tok} : isS w k = true ↔ k.1 = 4 ∧ k.2.2.1 = w := sorry
theorem q_operand {t : Nat → Nat} {n d m br np u i : Nat} {h : mj_H} {sy : List Sym} {vis : List Nat} {ts : List Tok} {L : List PL} (hEX : 0 < m → EXk m) (hm : br + m = 8) (a : CX t n h sy vis br np u i ts L) (hb : np + ts.length ≤ 3040) : mP (mj_R mg (d + (5 * m + 11)) mq_65 (0, [(0, vR 5 0)], [], h)) (fun v h' => pE t n sy vis br np u i L (np + ts.length) h v h' (opd (expS sy vis m) sy vis br ts)) := sorry
/-! operations -/
theorem or_dec {p q : Prop} [Decidable p] [Decidable q] : (decide p || decide q) = decide (p ∨ q) := sorry
theorem q_isOp {t : Nat → Nat} {n d : Nat} {u i : Nat} {ts : List Tok} {L : List PL} {h : mj_H} (a : CQ t n h ((u, i, ts) :: L)) : mj_R mg (d + 1) mq_66 (0, [(0, vR 5 0)], [], h) = some (.inl (some (vI (bI (isO (hd ts)))), h)) := sorry
