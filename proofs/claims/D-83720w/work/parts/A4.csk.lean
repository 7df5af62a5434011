/-! the component's reader: programs -/
def plcB (pa : List (List Nat)) (bs : List Tm) (lk : List (Nat × Nat)) (rt : List (Nat × Tm)) (sy : List Sym) (vis : List Nat) (L : List PL) : Fr Pg := match L with
  | [] => .inl (0, none)
  | (u, _, ts) :: L2 =>
    bnd (lft u (tkS (isW 19 (hd ts)) ts)) fun r => bnd (lft u (tkS (isW 2 (hd r)) r)) fun r2 => bnd (lft u (endS r2)) fun _ =>
    plsS (L2.length + 1) (pa, bs, lk, rt, sy, vis, L2)
theorem plcS_s (pa : List (List Nat)) (bs : List Tm) (lk : List (Nat × Nat)) (rt : List (Nat × Tm)) (sy : List Sym) (vis : List Nat) (L : List PL) : plcS (pa, bs, lk, rt, sy, vis, L) = if isAt 0 L then plcB pa bs lk rt sy vis L else .inl (lvlF L) := sorry
theorem b_placed {t : Nat → Nat} {n d B : Nat} {h h1 : mj_H} {f : Flt} (b : pX t n h h1 f B) : mj_R mg (d + 7) mq_88 (0, [(0, vR 5 0)], [], h1) = some (.inl (none, h1)) := sorry
theorem q_placed {t : Nat → Nat} {n d np bd : Nat} {h h1 : mj_H} {sy : List Sym} {vis : List Nat} {L : List PL} {pa : List (List Nat)} {bs : List Tm} {lk : List (Nat × Nat)} {rt : List (Nat × Tm)} (a : CY t n h1 sy vis np L) (hP : PAc h1 sy vis pa) (hB : PBc h1 np pa.length bs lk rt) (hbl : bs.length = pa.length) (gz : gZ h h1) (hF : ∀ y ∈ L, frs y) (hb : np + wt L ≤ bd) (hbd : bd ≤ 3030) (hL : L.length ≤ 2990) :
    mP (mj_R mg (d + 1270) mq_88 (0, [(0, vR 5 0)], [], h1)) (fun v h' => pQ t n bd L h v h' (plcS (pa, bs, lk, rt, sy, vis, L))) := sorry
/-! the beginning -/
theorem cl_loop {d : Nat} : ∀ (m k : Nat) (h : mj_H), k + m = 6 → (∀ j, j < k → h.1 46 0 j = -1) → ∃ h', mj_R mg d mq_34 (22, [(1, vI (nI k)), (0, vR 4 0)], [], h) = some (.inl (none, h')) ∧ (∀ j, j < 6 → h'.1 46 0 j = -1) ∧ (∀ g i j, g ≠ 46 → h'.1 g i j = h.1 g i j) ∧ h'.2 = h.2 := sorry
theorem q_clear {d : Nat} {h : mj_H} : ∃ h', mj_R mg d mq_34 (0, [(0, vR 4 0)], [], h) = some (.inl (none, h')) ∧ (∀ j, j < 6 → h'.1 46 0 j = -1) ∧ h'.1 4 0 9 = 0 ∧ h'.1 4 0 14 = 0 ∧ h'.1 4 0 17 = 0 ∧ h'.1 4 0 25 = 0 ∧ (∀ g i j, g ≠ 46 → g ≠ 4 → h'.1 g i j = h.1 g i j) ∧ h'.2 = h.2 := sorry
theorem pck_loop {d k0 : Nat} {h : mj_H} (hl : mt_sln k0 ≤ 8) (hc : ∀ i, i < mt_sln k0 → mt_sch k0 i < 128) : ∀ (m i : Nat), i + m = mt_sln k0 → mj_R mg d mq_90 (4, [(3, vI (nI i)), (1, vL (lN (pkL ((List.range i).map (mt_sch k0))))), (0, vR 9 k0)], [], h) = some (.inl (some (vL (lN (pkL ((List.range (mt_sln k0)).map (mt_sch k0))))), h)) := sorry
theorem q_pack {d k0 : Nat} {h : mj_H} (hl : mt_sln k0 ≤ 8) (hc : ∀ i, i < mt_sln k0 → mt_sch k0 i < 128) : mj_R mg d mq_90 (0, [(0, vR 9 k0)], [], h) = some (.inl (some (vL (lN (pkL ((List.range (mt_sln k0)).map (mt_sch k0))))), h)) := sorry
theorem pk23 : (List.range (mt_sln 23)).map (mt_sch 23) = scrN := sorry
theorem pk24 : (List.range (mt_sln 24)).map (mt_sch 24) = keyN := sorry
