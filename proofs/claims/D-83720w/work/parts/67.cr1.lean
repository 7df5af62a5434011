/-! the component's reader: numbers, lines, levels, names -/
theorem q_number {t : Nat → Nat} {n d u i lo hi : Nat} {ts : List Tok} {L : List PL} {h : mj_H} (a : CQ t n h ((u, i, ts) :: L)) (hG : h.1 5 0 2 = 0) (hlo : lo < 2 ^ 31) (hhi : hi < 2 ^ 31) : mP (mj_R mg (d + 6) mq_43 (0, [(0, vR 5 0), (1, vI (nI lo)), (2, vI (nI hi))], [], h)) (fun v h' => ∃ r, v = some (vI r) ∧ match numS lo hi ts with | .inl f => h' = fl h (f.1, some (u, f.2)) | .inr x => r = nI x.1 ∧ cG h h' ∧ CQ t n h' ((u, i, x.2) :: L)) := sorry
theorem q_number0 {t : Nat → Nat} {n d u i lo hi : Nat} {ts : List Tok} {L : List PL} {h : mj_H} (a : CQ t n h ((u, i, ts) :: L)) (hB : h.1 5 0 2 ≠ 0) (hlo : lo < 2 ^ 31) (hhi : hi < 2 ^ 31) : mj_R mg (d + 6) mq_43 (0, [(0, vR 5 0), (1, vI (nI lo)), (2, vI (nI hi))], [], h) = some (.inl (some (vI (h.1 6 0 15)), h)) := sorry
theorem fl_2 {h : mj_H} {k : Nat} {o : Option (Nat × Nat)} (hk : k ≠ 0) (hk2 : k < 10) : (fl h (k, o)).1 5 0 2 ≠ 0 := sorry
theorem q_endLine {t : Nat → Nat} {n d u i : Nat} {ts : List Tok} {L : List PL} {h : mj_H} (a : CQ t n h ((u, i, ts) :: L)) (hG : h.1 5 0 2 = 0) : mP (mj_R mg (d + 6) mq_44 (0, [(0, vR 5 0)], [], h)) (fun v h' => v = none ∧ match endS ts with | .inl f => h' = fl h (f.1, some (u, f.2)) | .inr _ => cG h h' ∧ CQ t n h' L) := sorry
theorem q_endLine0 {d : Nat} {h : mj_H} (hB : h.1 5 0 2 ≠ 0) : mj_R mg (d + 6) mq_44 (0, [(0, vR 5 0)], [], h) = some (.inl (none, h)) := sorry
theorem q_isAt {t : Nat → Nat} {n d lv : Nat} {L : List PL} {h : mj_H} (a : CQ t n h L) (hG : h.1 5 0 2 = 0) (hl : lv < 2 ^ 31) : mj_R mg (d + 1) mq_45 (0, [(0, vR 5 0), (1, vI (nI lv))], [], h) = some (.inl (some (vI (bI (isAt lv L))), h)) := sorry
theorem q_isAt0 {d : Nat} {x : Int32} {h : mj_H} (hB : h.1 5 0 2 ≠ 0) : mj_R mg (d + 1) mq_45 (0, [(0, vR 5 0), (1, vI x)], [], h) = some (.inl (some (vI 0), h)) := sorry
/-- a line that is not begun yet -/
def frs (x : PL) : Prop := (hd x.2.2).2.1 = x.2.1 ∧ (hd x.2.2).1 ≠ 0
theorem plF_frs {t : Nat → Nat} {x : Lin} (h1 : x.2.2.1 < x.2.2.2) : frs (plF t x) := sorry
theorem CQ.frs {t : Nat → Nat} {n : Nat} {h : mj_H} {x : PL} {L : List PL} (a : CQ t n h (x :: L)) : ∀ y ∈ L, frs y := sorry
theorem q_needLevel {t : Nat → Nat} {n d lv : Nat} {L : List PL} {h : mj_H} (a : CQ t n h L) (hG : h.1 5 0 2 = 0) (hl : lv < 2 ^ 31) (hf : ∀ y ∈ L, frs y) : mj_R mg (d + 4) mq_46 (0, [(0, vR 5 0), (1, vI (nI lv))], [], h) = some (.inl (none, if isAt lv L then h else fl h (lvlF L))) := sorry
theorem q_needLevel0 {d : Nat} {x : Int32} {h : mj_H} (hB : h.1 5 0 2 ≠ 0) : mj_R mg (d + 4) mq_46 (0, [(0, vR 5 0), (1, vI x)], [], h) = some (.inl (none, h)) := sorry
/-! names -/
def okN (cs : List Nat) : Prop := 1 ≤ cs.length ∧ cs.length ≤ 10 ∧ ∀ c ∈ cs, isId c = true
theorem isId_r {c : Nat} (h : isId c = true) : 0 < c ∧ c < 128 := sorry
theorem pkL_bs (l : List Nat) : pkL l = bsL 256 l := sorry
theorem bs_half : ∀ (m : Nat) (l : List Nat), l.length = m → (∀ x ∈ l, x < 128) → 2 * bsL 256 l < 256 ^ m := sorry
theorem pkL_lt {l : List Nat} (h1 : l.length ≤ 8) (h2 : ∀ x ∈ l, x < 128) : pkL l < 2 ^ 63 := sorry
theorem nm_eq {a b : List Nat} (ha : okN a) (hb : okN b) : (lN (pkL (a.take 8)) = lN (pkL (b.take 8)) ∧ lN (pkL (a.drop 8)) = lN (pkL (b.drop 8))) ↔ a = b := sorry
def inSy (sy : List Sym) (s : Nat) : Prop := s < sy.length ∨ s = 200 ∨ s = 201
/-- the tables of names -/
def SYc (h : mj_H) (sy : List Sym) : Prop := h.1 4 0 14 = nI sy.length ∧ sy.length ≤ 200 ∧ ∀ s, inSy sy s → h.2.1 31 0 s = lN (pkL ((syO sy s).1.take 8)) ∧ h.2.1 32 0 s = lN (pkL ((syO sy s).1.drop 8)) ∧ h.2.2 33 0 s = srO sy s + 1 ∧ h.1 34 0 s = nI (szO sy s) ∧ okN (syO sy s).1 ∧ srO sy s ≤ 11 ∧ szO sy s < 300
def VSc (h : mj_H) (sy : List Sym) (vis : List Nat) : Prop := h.1 5 0 6 = nI vis.length ∧ vis.length ≤ sy.length + 2 ∧ (∀ m s, vis[m]? = some s → h.1 47 0 (vis.length - 1 - m) = nI s) ∧ ∀ s ∈ vis, inSy sy s
theorem inSy_lt {sy : List Sym} {s : Nat} (h : inSy sy s) (hl : sy.length ≤ 200) : s < 202 := sorry
theorem fd_loop {h : mj_H} {sy : List Sym} {vis cs : List Nat} {d : Nat} (hS : SYc h sy) (hV : VSc h sy vis) (hc : okN cs) : ∀ (r pre : List Nat) (x5 : Int32), vis = pre ++ r → x5 = nI r.length + (-1) → mj_R mg d mq_47 (8, [(5, vI x5), (0, vR 5 0), (1, vL (lN (pkL (cs.take 8)))), (3, vL (lN (pkL (cs.drop 8))))], [], h) = some (.inl (some (vI (match fnd sy r cs with | none => -1 | some s => nI s)), h)) := sorry
theorem r_find {h : mj_H} {sy : List Sym} {vis cs : List Nat} {d : Nat} (hS : SYc h sy) (hV : VSc h sy vis) (hc : okN cs) : mj_R mg d mq_47 (0, [(0, vR 5 0), (1, vL (lN (pkL (cs.take 8)))), (3, vL (lN (pkL (cs.drop 8))))], [], h) = some (.inl (some (vI (match fnd sy vis cs with | none => -1 | some s => nI s)), h)) := sorry
theorem fnd_in {sy : List Sym} {cs : List Nat} {s : Nat} : ∀ {vis : List Nat}, fnd sy vis cs = some s → s ∈ vis ∧ (syO sy s).1 = cs := sorry
