/-! the twin's reader: SEQ, PAR -/
def eI (u : Nat) (h : mj_H) (lo hi : Nat) (e : Tm) (v : Int32) : Prop := ∃ a, v = nI a ∧ tE u lo hi h e a
theorem eI_mv (u : Nat) : mvI (eI u) := sorry
def uI (_ : mj_H) (_ _ : Nat) (a : Nat) (v : Int32) : Prop := v = nI a
theorem uI_mv : mvI uI := sorry
theorem xB_E {D : Nat} : xB (fun h => mj_R mg (D + 1) mq_239 (0, [(0, vR 15 0)], [], h)) := sorry
theorem xG_E {t : Nat → Nat} {n D u i : Nat} {sy : List Sym} {vis : List Nat} {L : List PL} (hD : 60 ≤ D) : xG (eI u) t n u i sy vis L (fun h => mj_R mg D mq_239 (0, [(0, vR 15 0)], [], h)) (exT sy vis 0) := sorry
theorem xB_N {D : Nat} {x1 x2 : Int32} : xB (fun h => mj_R mg (D + 2) mq_246 (0, [(0, vR 15 0), (1, vI x1), (2, vI x2)], [], h)) := sorry
theorem xG_N {t : Nat → Nat} {n D u i lo hi : Nat} {sy : List Sym} {vis : List Nat} {L : List PL} (hlo : lo < 2 ^ 31) (hhi : hi < 2 ^ 31) : xG uI t n u i sy vis L (fun h => mj_R mg (D + 5) mq_246 (0, [(0, vR 15 0), (1, vI (nI lo)), (2, vI (nI hi))], [], h)) (numS lo hi) := sorry
def seqS (P : PrP) (lv : Nat) (vis : List Nat) (sy : List Sym) (u : Nat) (ts : List Tok) (L : List PL) : PrR :=
  if (hd ts).1 = 1 then
    bnd (lft u (bnd (newS sy.length 10 0 sy ts) fun n =>
      bnd (tkS (isS 61 (hd n.2)) n.2) fun r =>
      bnd (exT n.1 vis 0 r) fun e1 =>
      bnd (tkS (isW 13 (hd e1.2)) e1.2) fun r2 =>
      bnd (exT n.1 vis 0 r2) fun e2 =>
      bnd (endS e2.2) fun _ => .inr (n.1, e1.1, e2.1))) fun z =>
    bnd (P (lv + 1) (sy.length :: vis) z.1 L) fun x =>
    .inr (.rem (.arg sy.length) (.elem (.elem z.2.1 z.2.2) x.1), x.2)
  else
    bnd (lft u (endS ts)) fun _ =>
    bnd (blwS P (lv + 1) vis 0 100000 (L.length + 1) 0 sy L) fun x => .inr (.length x.1, x.2)
def pllS (P : PrP) (lv : Nat) (vis : List Nat) (sy : List Sym) (u : Nat) (ts : List Tok) (L : List PL) : PrR :=
  if (hd ts).1 = 1 then
    bnd (lft u (bnd (newS sy.length 11 0 sy ts) fun n =>
      bnd (tkS (isS 61 (hd n.2)) n.2) fun r =>
      bnd (numS 0 2147483647 r) fun e1 =>
      bnd (tkS (isW 13 (hd e1.2)) e1.2) fun r2 =>
      bnd (numS 1 8 r2) fun e2 =>
      bnd (endS e2.2) fun _ => .inr (n.1, e1.1, e2.1))) fun z =>
    bnd (P (lv + 1) (sy.length :: vis) z.1 L) fun x =>
    .inr (.rem (.index sy.length) (.elem (.elem (.index z.2.1) (.index z.2.2)) x.1), x.2)
  else
    bnd (lft u (endS ts)) fun _ =>
    bnd (blwS P (lv + 1) vis 2 8 (L.length + 3) 0 sy L) fun x => .inr (.sum (.elem (.index sy.length) x.1), x.2)
theorem endS_ne {ts : List Tok} (h : (hd ts).1 ≠ 0) : endS ts = .inl (1, (hd ts).2.1) := sorry
/-- a loop: its node, its name -/
theorem t_loop {t : Nat → Nat} {n D m lv u i nn w bd k : Nat} {wI zI kI : Int32} {h : mj_H} {sy : List Sym} {vis : List Nat} {ts : List Tok} {L : List PL} {pa : List (List Nat)} {α : Type} {I : mj_H → Nat → Nat → α → Int32 → Prop} {X1 X2 : mj_H → Option mj_O} {R1 R2 : List Sym → List Tok → Rs (α × List Tok)} {F : α → α → Tm → Tm} (PK : TrK pa m) (hbd : bd ≤ 3300) (hlv : lv ≤ 15) (hm : (16 - lv) + (200 - sy.length) ≤ m) (hL : L.length ≤ 2990) (hD : 4 * m + 81 ≤ D) (hI : mvI I) (x1 : xB X1) (g1 : ∀ sy2, xG I t n u i sy2 vis L X1 (R1 sy2)) (x2 : xB X2) (g2 : ∀ sy2, xG I t n u i sy2 vis L X2 (R2 sy2)) (hQ : sy.length < 200 → fQ I pa w u nn sy.length F) (hk : 2 ≤ k ∧ k ≤ 11) (hw : wI = nI w) (hkI : kI = nI (kdT k)) (hzI : zI = nI (szT k 0))
    (a : TX t n h sy vis 0 nn u i ts L) (hP : TPA h sy vis pa) (h1 : (hd ts).1 = 1) (hb : nn + 1 + ts.length + wt L ≤ bd) :
    mP (mj_xi (mj_R mg D mq_231 (0, [(0, vR 15 0), (1, vI wI), (2, vI 0), (3, vI 0), (4, vI 0), (5, vI 0)], [], h)) (fun r2 h2 => mj_xi (mj_R mg D mq_229 (0, [(0, vR 15 0), (1, vI kI), (2, vI zI)], [], h2)) (fun r3 h3 => if mj_in r2 7000 then mj_xv (mj_R mg D mq_222 (0, [(0, vR 15 0), (1, vI 1)], [], mj_sI h3 89 0 r2.toNatClampNeg r3)) (fun h4 => mj_xi (mj_R mg D mq_221 (0, [(0, vR 15 0), (1, vI 61)], [], h4)) (fun r5 h5 => mj_xv (mj_R mg D mq_222 (0, [(0, vR 15 0), (1, vI r5)], [], h5)) (fun h6 => mj_xi (X1 h6) (fun r7 h7 => if mj_in r2 7000 then mj_xi (mj_R mg D mq_220 (0, [(0, vR 15 0), (1, vI 13)], [], mj_sI h7 91 0 r2.toNatClampNeg r7)) (fun r8 h8 => mj_xv (mj_R mg D mq_222 (0, [(0, vR 15 0), (1, vI r8)], [], h8)) (fun h9 => mj_xi (X2 h9) (fun r10 h10 => if mj_in r2 7000 then mj_xv (mj_R mg D mq_223 (0, [(0, vR 15 0)], [], mj_sI h10 92 0 r2.toNatClampNeg r10)) (fun h11 => mj_xi (mj_R mg D mq_251 (0, [(0, vR 15 0), (1, vI r2), (2, vI (nI lv))], [], h11)) (fun r12 h12 => some (.inl (some (vI r12), h12)))) else none))) else none)))) else none))) (fun v h' => qK t n pa vis sy nn bd lv u L h v h' (bnd (lft u (bnd (newS sy.length k 0 sy ts) fun n =>
      bnd (tkS (isS 61 (hd n.2)) n.2) fun r =>
      bnd (R1 n.1 r) fun e1 =>
      bnd (tkS (isW 13 (hd e1.2)) e1.2) fun r2 =>
      bnd (R2 n.1 r2) fun e2 =>
      bnd (endS e2.2) fun _ => .inr (n.1, e1.1, e2.1))) fun z =>
    bnd (proS pa m (lv + 1) (sy.length :: vis) z.1 L) fun x =>
    .inr (F z.2.1 z.2.2 x.1, x.2))) := sorry
theorem t_seq {t : Nat → Nat} {n D m lv u i nn bd : Nat} {h : mj_H} {sy : List Sym} {vis : List Nat} {ts : List Tok} {L : List PL} {pa : List (List Nat)} (PK : TrK pa m) (hbd : bd ≤ 3300) (hlv : lv ≤ 15) (hm : (16 - lv) + (200 - sy.length) ≤ m) (hL : L.length ≤ 2990) (hD : 4 * m + 82 ≤ D) (a : TX t n h sy vis 0 nn u i ts L) (hne : (hd ts).1 ≠ 0) (hP : TPA h sy vis pa) (hb : nn + ts.length + wt L ≤ bd) :
    mP (mj_R mg D mq_250 (0, [(0, vR 15 0), (1, vI (nI lv))], [], h)) (fun v h' => qK t n pa vis sy nn bd lv u L h v h' (seqS (proS pa m) lv vis sy u ts.tail L)) := sorry
theorem t_par {t : Nat → Nat} {n D m lv u i nn bd : Nat} {h : mj_H} {sy : List Sym} {vis : List Nat} {ts : List Tok} {L : List PL} {pa : List (List Nat)} (PK : TrK pa m) (hbd : bd ≤ 3300) (hlv : lv ≤ 15) (hm : (16 - lv) + (200 - sy.length) ≤ m) (hL : L.length ≤ 2990) (hD : 4 * m + 82 ≤ D) (a : TX t n h sy vis 0 nn u i ts L) (hne : (hd ts).1 ≠ 0) (hP : TPA h sy vis pa) (hb : nn + ts.length + wt L ≤ bd) :
    mP (mj_R mg D mq_252 (0, [(0, vR 15 0), (1, vI (nI lv))], [], h)) (fun v h' => qK t n pa vis sy nn bd lv u L h v h' (pllS (proS pa m) lv vis sy u ts.tail L)) := sorry
