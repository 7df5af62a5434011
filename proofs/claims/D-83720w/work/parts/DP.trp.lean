/-! the twin's reader: what a line begins -/
theorem qV_K {t : Nat → Nat} {n c bd lv md w u : Nat} {pa : List (List Nat)} {vis : List Nat} {sy : List Sym} {L : List PL} {E : mj_H → Tm → Prop} {h0 h h' : mj_H} {v : Option mj_V} {X : PrR} {F : Tm → Tm} (q : qV t n pa vis sy c bd lv md L [] E h0 h v h' X) (h87 : h0.1 87 0 c = nI w) (h88 : h0.1 88 0 c = nI u) (h94 : h0.1 94 0 c = 0) (hE : ∀ (g g' : mj_H) x, g'.1 90 0 c = g.1 90 0 c → E g x → E g' x)
    (hQ : ∀ (nn' : Nat) (h9 : mj_H) (f cc : Nat) (x : Tm), tD u c nn' h9 c w f cc → E h9 x → tQ pa (c + 1) nn' h9 x md 0 0 (h9.1 93 0 c) → tQ pa c nn' h9 (.div (.index u) (F x)) 0 f cc (nI c)) :
    qK t n pa vis sy c bd lv u L h v h' (bnd X fun x => .inr (F x.1, x.2)) := sorry
section
variable {t : Nat → Nat} {n D m lv u i nn bd : Nat} {h : mj_H} {sy : List Sym} {vis : List Nat} {ts : List Tok} {L : List PL} {pa : List (List Nat)}
theorem t_if (PK : TrK pa m) (hbd : bd ≤ 3300) (hlv : lv ≤ 15) (hm : (16 - lv) + (200 - sy.length) ≤ m) (hL : L.length ≤ 2990) (hD : 4 * m + 82 ≤ D) (a : TX t n h sy vis 0 nn u i ts L) (hne : (hd ts).1 ≠ 0) (hP : TPA h sy vis pa) (hb : nn + ts.length + wt L ≤ bd) :
    mP (mj_R mg D mq_254 (0, [(0, vR 15 0), (1, vI (nI lv))], [], h)) (fun v h' => qK t n pa vis sy nn bd lv u L h v h' (bnd (lft u (endS ts.tail)) fun _ => bnd (ifsS (proS pa m) lv vis (L.length + 2) true sy L) fun x => .inr (.rem .null x.1, x.2))) := sorry
theorem t_alt (PK : TrK pa m) (hbd : bd ≤ 3300) (hlv : lv ≤ 15) (hm : (16 - lv) + (200 - sy.length) ≤ m) (hL : L.length ≤ 2990) (hD : 4 * m + 82 ≤ D) (a : TX t n h sy vis 0 nn u i ts L) (hne : (hd ts).1 ≠ 0) (hP : TPA h sy vis pa) (hb : nn + ts.length + wt L ≤ bd) :
    mP (mj_R mg D mq_255 (0, [(0, vR 15 0), (1, vI (nI lv))], [], h)) (fun v h' => qK t n pa vis sy nn bd lv u L h v h' (bnd (lft u (endS ts.tail)) fun _ => bnd (altS (proS pa m) lv vis (L.length + 2) 0 sy L) fun x => .inr (.rem .result x.1, x.2))) := sorry
/-- SKIP, STOP -/
theorem t_skip {w : Nat} {wI x2 x3 : Int32} {Q : Tm} (hbd : bd ≤ 3300) (a : TX t n h sy vis 0 nn u i ts L) (hne : (hd ts).1 ≠ 0) (hb : nn + ts.length + wt L ≤ bd) (hw : wI = nI w) (hQ : ∀ lo hi g k f c, tD u lo hi g k w f c → tQ pa lo hi g (.div (.index u) Q) 0 f c (nI k)) :
    mP (mj_R mg (D + 4) mq_248 (102, [(3, vI x3), (2, vI x2), (0, vR 15 0), (1, vI (nI lv))], [vI wI, vR 15 0], h)) (fun v h' => qK t n pa vis sy nn bd lv u L h v h' (bnd (lft u (endS ts.tail)) fun _ => .inr (Q, sy, L))) := sorry
/-- PRI PAR -/
theorem t_pri {x2 x3 : Int32} (PK : TrK pa m) (hbd : bd ≤ 3300) (hlv : lv ≤ 15) (hm : (16 - lv) + (200 - sy.length) ≤ m) (hL : L.length ≤ 2990) (hD : 4 * m + 82 ≤ D) (a : TX t n h sy vis 0 nn u i ts L) (hne : (hd ts).1 ≠ 0) (hP : TPA h sy vis pa) (hb : nn + ts.length + wt L ≤ bd) :
    mP (mj_R mg D mq_248 (156, [(3, vI x3), (2, vI x2), (0, vR 15 0), (1, vI (nI lv))], [], h)) (fun v h' => qK t n pa vis sy nn bd lv u L h v h' (bnd (lft u (endS ts.tail)) fun _ => bnd (blwS (proS pa m) (lv + 1) vis 2 2 (L.length + 3) 0 sy L) fun x => .inr (.old (.elem (.index sy.length) x.1), x.2))) := sorry
end

