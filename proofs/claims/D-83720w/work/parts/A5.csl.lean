/-! the component's reader: read, whole -/
theorem q_host {d x nv : Nat} {y : Int64} {z : Int32} {h : mj_H} (hx : x < 202) (hn : h.1 5 0 6 = nI nv) (hv : nv < 202) : mj_R mg d mq_89 (0, [(0, vR 5 0), (1, vI (nI x)), (2, vL y), (4, vI z)], [], h) = some (.inl (none, mj_sI (mj_sI (mj_sI (mj_sR (mj_sL (mj_sL h 31 0 x y) 32 0 x 0) 33 0 x 2) 34 0 x z) 47 0 nv (nI x)) 5 0 6 (nI (nv + 1)))) := sorry
def pRd (t : Nat → Nat) (n : Nat) (h : mj_H) (v : Option mj_V) (h' : mj_H) : Fr Pg → Prop
  | .inl f => v = none ∧ pX t n h h' f 3070
  | .inr q => v = none ∧ gZ h h' ∧ ∃ np, PGc t n h' q np ∧ np ≤ 3030
theorem rdB181 {t : Nat → Nat} {n d B : Nat} {h h1 : mj_H} {f : Flt} (b : pX t n h h1 f B) : mP (mj_R mg (d + 1) mq_91 (181, [(0, vR 5 0)], [], h1)) (pXn t n h f B) := sorry
theorem rdB87 {t : Nat → Nat} {n d B : Nat} {h h1 : mj_H} {f : Flt} (b : pX t n h h1 f B) : mP (mj_R mg (d + 2) mq_91 (87, [(0, vR 5 0)], [], h1)) (pXn t n h f B) := sorry
theorem rdB59 {t : Nat → Nat} {n d B : Nat} {h h1 : mj_H} {f : Flt} (b : pX t n h h1 f B) : mP (mj_R mg (d + 2) mq_91 (59, [(0, vR 5 0)], [], h1)) (pXn t n h f B) := sorry
theorem rdB121 {t : Nat → Nat} {n d B : Nat} {h h1 : mj_H} {f : Flt} (b : pX t n h h1 f B) : mP (mj_R mg (d + 8) mq_91 (121, [(0, vR 5 0)], [], h1)) (pXn t n h f B) := sorry
/-- the end: nothing may be left -/
def finS (q : Pg) : Fr Pg := if q.2.2.2.2.2.2 = [] then .inr q else .inl (lvlF q.2.2.2.2.2.2)
theorem rd181 {t : Nat → Nat} {n d np : Nat} {h h1 : mj_H} {p : Pg} (G : PGc t n h1 p np) (gz : gZ h h1) (hn : np ≤ 3030) (hF : ∀ y ∈ p.2.2.2.2.2.2, frs y) : mP (mj_R mg (d + 4) mq_91 (181, [(0, vR 5 0)], [], h1)) (fun v h' => pRd t n h v h' (finS p)) := sorry
def wrsB (m : Nat) (pa : List (List Nat)) (bs : List Tm) (lk : List (Nat × Nat)) (rt : List (Nat × Tm)) (sy : List Sym) (vis : List Nat) (L : List PL) : Fr Pg := match L with
  | [] => .inl (0, none)
  | (u, _, ts) :: L2 =>
    wiX u lk.length sy ts.tail fun s a b => wrsS m (pa, bs, lk ++ [(a, b)], rt, s, sy.length :: vis, L2)
theorem wrsS_s (m : Nat) (pa : List (List Nat)) (bs : List Tm) (lk : List (Nat × Nat)) (rt : List (Nat × Tm)) (sy : List Sym) (vis : List Nat) (L : List PL) : wrsS (m + 1) (pa, bs, lk, rt, sy, vis, L) = if isAt 0 L && frsW 21 L then wrsB m pa bs lk rt sy vis L else .inr (pa, bs, lk, rt, sy, vis, L) := sorry
theorem wiX_bnd (u has : Nat) (sy : List Sym) (ts : List Tok) (F : List Sym → Nat → Nat → Fr Pg) (K : Pg → Fr Pg) : bnd (wiX u has sy ts F) K = wiX u has sy ts fun s a b => bnd (F s a b) K := sorry
theorem wr_loop {t : Nat → Nat} {n d bd : Nat} {h : mj_H} {L0 : List PL} {pa : List (List Nat)} {bs : List Tm} {rt : List (Nat × Tm)} (hbl : bs.length = pa.length) (hbd : bd ≤ 3030) (hL0 : L0.length ≤ 2990) (hF0 : ∀ y ∈ L0, frs y) : ∀ (M : Nat) (h1 : mj_H) (sy : List Sym) (vis : List Nat) (np : Nat) (lk : List (Nat × Nat)) (L : List PL), CY t n h1 sy vis np L → PAc h1 sy vis pa → PBc h1 np pa.length bs lk rt → gZ h h1 → np + wt L ≤ bd → L <:+ L0 → L.length + 1 ≤ M →
    mP (mj_R mg (d + 1271) mq_91 (121, [(0, vR 5 0)], [], h1)) (fun v h' => pRd t n h v h' (bnd (wrsS M (pa, bs, lk, rt, sy, vis, L)) fun p => bnd (plcS p) finS)) := sorry
