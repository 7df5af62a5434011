/-! the component's reader: read, from the beginning -/
def rdK (p : Pg) : Fr Pg := bnd (if isAt 0 p.2.2.2.2.2.2 && (frsW 21 p.2.2.2.2.2.2 || frsW 19 p.2.2.2.2.2.2) then bnd (wrsS (p.2.2.2.2.2.2.length + 1) p) plcS
    else bnd (proS p.1 fuel 0 p.2.2.2.2.2.1 p.2.2.2.2.1 p.2.2.2.2.2.2) fun x => .inr (p.1, p.2.1, p.2.2.1, [(0, x.1)], x.2.1, p.2.2.2.2.2.1, x.2.2)) finS
theorem prgS_eq (L : List PL) : prgS L = bnd (pcsS (L.length + 1) ([], [], [], [], [], [201, 200], L)) rdK := sorry
theorem rd87 {t : Nat → Nat} {n d np bd : Nat} {h h1 : mj_H} {sy : List Sym} {vis : List Nat} {L : List PL} {pa : List (List Nat)} {bs : List Tm} (a : CY t n h1 sy vis np L) (hP : PAc h1 sy vis pa) (hB : PBc h1 np pa.length bs [] []) (hbl : bs.length = pa.length) (gz : gZ h h1) (hF : ∀ y ∈ L, frs y) (hb : np + wt L ≤ bd) (hbd : bd ≤ 3030) (hL : L.length ≤ 2990) :
    mP (mj_R mg (d + 1271) mq_91 (87, [(0, vR 5 0)], [], h1)) (fun v h' => pRd t n h v h' (rdK (pa, bs, [], [], sy, vis, L))) := sorry
def pcsB (m : Nat) (pa : List (List Nat)) (bs : List Tm) (lk : List (Nat × Nat)) (rt : List (Nat × Tm)) (sy : List Sym) (vis : List Nat) (L : List PL) : Fr Pg := match L with
  | [] => .inl (0, none)
  | (u, _, ts) :: L2 => bnd (prcS u ts L2 (pa, bs, lk, rt, sy, vis, L)) fun q => pcsS m q
theorem pcsS_s (m : Nat) (pa : List (List Nat)) (bs : List Tm) (lk : List (Nat × Nat)) (rt : List (Nat × Tm)) (sy : List Sym) (vis : List Nat) (L : List PL) : pcsS (m + 1) (pa, bs, lk, rt, sy, vis, L) = if isAt 0 L && frsW 12 L then pcsB m pa bs lk rt sy vis L else .inr (pa, bs, lk, rt, sy, vis, L) := sorry
theorem prcS_in {u : Nat} {ts : List Tok} {L L0 : List PL} {pa : List (List Nat)} {bs : List Tm} {lk : List (Nat × Nat)} {rt : List (Nat × Tm)} {sy : List Sym} {vis : List Nat} {q : Pg} (h : prcS u ts L (pa, bs, lk, rt, sy, vis, L0) = .inr q) : q.2.2.1 = lk ∧ q.2.2.2.1 = rt := sorry
theorem pc_loop {t : Nat → Nat} {n d bd : Nat} {h : mj_H} {L0 : List PL} (hbd : bd ≤ 3030) (hL0 : L0.length ≤ 2990) (hF0 : ∀ y ∈ L0, frs y) : ∀ (M : Nat) (h1 : mj_H) (sy : List Sym) (vis : List Nat) (np : Nat) (pa : List (List Nat)) (bs : List Tm) (L : List PL), CY t n h1 sy vis np L → PAc h1 sy vis pa → PBc h1 np pa.length bs [] [] → bs.length = pa.length → gZ h h1 → np + wt L ≤ bd → L <:+ L0 → L.length + 1 ≤ M →
    mP (mj_R mg (d + 1271) mq_91 (59, [(0, vR 5 0)], [], h1)) (fun v h' => pRd t n h v h' (bnd (pcsS M (pa, bs, [], [], sy, vis, L)) rdK)) := sorry
/-! the lines of a text -/
theorem tkl_len {t : Nat → Nat} {b e : Nat} : ∀ m p, (tkl t b e m p).length ≤ m + 1 := sorry
theorem lns_wt {t : Nat → Nat} {n : Nat} : ∀ m b u, wt ((lns t n m b u).map (plF t)) ≤ n + 1 - b := sorry
theorem frs_2 {x : PL} (h : frs x) (hn : 1 ≤ x.2.2.length) (hl : ∀ k, x.2.2 = [k] → k.1 = 0) : 2 ≤ x.2.2.length := sorry
theorem lns_two {t : Nat → Nat} {n : Nat} : ∀ m b u, 2 * (lns t n m b u).length ≤ wt ((lns t n m b u).map (plF t)) := sorry
def txL (t : Nat → Nat) (n : Nat) : List PL := (lnsE t n 0 0).map (plF t)
theorem txL_ok {t : Nat → Nat} {n : Nat} (hT : txOK t n) : wt (txL t n) ≤ 3001 ∧ (txL t n).length ≤ 2990 ∧ ∀ y ∈ txL t n, frs y := sorry
