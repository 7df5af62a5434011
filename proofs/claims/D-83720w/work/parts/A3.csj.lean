/-! the component's reader: PLACED PAR -/
theorem rQ_root {lo hi : Nat} {h : mj_H} {A : Tm} {x : Int32} (a : rQ lo hi h A 0 x) : ∃ k, x = nI k ∧ lo ≤ k ∧ k < hi := sorry
theorem PBc_rt {np np' q k j : Nat} {h : mj_H} {B : Tm} {bs : List Tm} {lk : List (Nat × Nat)} {rt : List (Nat × Tm)} (c : PBc h np q bs lk rt) (hn' : np ≤ np') (hk : k < 6) (hn : rt.find? (fun x => x.1 == k) = none) (hr : rQ np np' h B 0 (nI j)) : PBc (mj_sI h 46 0 k (nI j)) np' q bs lk (rt ++ [(k, B)]) := sorry
theorem plB130 {t : Nat → Nat} {n d B : Nat} {x1 x2 s0 : Int32} {h h1 : mj_H} {f : Flt} (b : pX t n h h1 f B) : mP (mj_R mg (d + 1) mq_88 (130, [(2, vI x2), (1, vI x1), (0, vR 5 0)], [vI s0], h1)) (pXn t n h f B) := sorry
theorem plB103 {t : Nat → Nat} {n d B : Nat} {x1 : Int32} {h h1 : mj_H} {f : Flt} (b : pX t n h h1 f B) : mP (mj_R mg (d + 7) mq_88 (103, [(1, vI x1), (0, vR 5 0)], [], h1)) (pXn t n h f B) := sorry
def plsB (m : Nat) (pa : List (List Nat)) (bs : List Tm) (lk : List (Nat × Nat)) (rt : List (Nat × Tm)) (sy : List Sym) (vis : List Nat) (L : List PL) : Fr Pg := match L with
  | [] => .inl (0, none)
  | (u, _, ts) :: L2 =>
    bnd (lft u (psrS rt ts)) fun k =>
    bnd (proS pa fuel 2 vis sy L2) fun x =>
    if x.2.2 = [] then .inr (pa, bs, lk, rt ++ [(k, x.1)], x.2.1, vis, [])
    else plsS m (pa, bs, lk, rt ++ [(k, x.1)], x.2.1, vis, x.2.2)
theorem plsS_s (m : Nat) (pa : List (List Nat)) (bs : List Tm) (lk : List (Nat × Nat)) (rt : List (Nat × Tm)) (sy : List Sym) (vis : List Nat) (L : List PL) : plsS (m + 1) (pa, bs, lk, rt, sy, vis, L) = if isAt 1 L then plsB m pa bs lk rt sy vis L else .inl (lvlF L) := sorry
theorem psrS_eq (u : Nat) (rt : List (Nat × Tm)) (ts : List Tok) (F : Nat → Fr Pg) : bnd (lft u (psrS rt ts)) F = bnd (lft u (tkS (isW 20 (hd ts)) ts)) fun r =>
  bnd (lft u (chkS (!((hd r).1 == 3 && decide ((hd r).2.2.1 ≤ 5) && (rt.any fun x => x.1 == (hd r).2.2.1))) 1 (hd r).2.1)) fun _ =>
  bnd (lft u (numS 0 5 r)) fun a => bnd (lft u (endS a.2)) fun _ => F a.1 := sorry
theorem find_any {rt : List (Nat × Tm)} {k : Nat} : (rt.any fun x => x.1 == k) = (rt.find? (fun x => x.1 == k)).isSome := sorry
theorem pl_loop {t : Nat → Nat} {n d bd : Nat} {h : mj_H} {vis : List Nat} {L0 : List PL} {pa : List (List Nat)} {bs : List Tm} {lk : List (Nat × Nat)} (hbl : bs.length = pa.length) (hbd : bd ≤ 3030) (hL0 : L0.length ≤ 2990) (hF0 : ∀ y ∈ L0, frs y) : ∀ (M : Nat) (h1 : mj_H) (sy : List Sym) (np : Nat) (rt : List (Nat × Tm)) (L : List PL), CY t n h1 sy vis np L → PAc h1 sy vis pa → PBc h1 np pa.length bs lk rt → gZ h h1 → np + wt L ≤ bd → L <:+ L0 → L.length + 1 ≤ M →
    mP (mj_R mg (d + 1270) mq_88 (28, [(1, vI 1), (0, vR 5 0)], [], h1)) (fun v h' => pQ t n bd L0 h v h' (plsS M (pa, bs, lk, rt, sy, vis, L))) := sorry
