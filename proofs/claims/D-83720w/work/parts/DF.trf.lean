/-! the twin's reader: processes; their frame, new names -/
def tW (nn ns nv : Nat) (h h' : mj_H) : Prop := (∀ g i j, ¬ ((g = 15 ∧ (9 ≤ j ∧ j ≤ 16 ∨ j = 19 ∨ 28 ≤ j ∧ j ≤ 31)) ∨ (87 ≤ g ∧ g ≤ 100 ∧ nn ≤ j) ∨ (79 ≤ g ∧ g ≤ 85 ∧ ns + 2 ≤ j) ∨ (g = 86 ∧ nv ≤ j)) → h'.1 g i j = h.1 g i j) ∧ (∀ g i j, ¬ ((g = 15 ∧ j = 14) ∨ (g = 78 ∧ ns + 2 ≤ j)) → h'.2.1 g i j = h.2.1 g i j) ∧ h'.2.2 = h.2.2
theorem tW.rf (nn ns nv : Nat) (h : mj_H) : tW nn ns nv h h := sorry
theorem tW.tr {nn ns nv : Nat} {h h1 h2 : mj_H} (a : tW nn ns nv h h1) (b : tW nn ns nv h1 h2) : tW nn ns nv h h2 := sorry
theorem tW.le {nn ns nv nn' ns' nv' : Nat} {h h' : mj_H} (a : tW nn' ns' nv' h h') (h1 : nn ≤ nn') (h2 : ns ≤ ns') (h3 : nv ≤ nv') : tW nn ns nv h h' := sorry
theorem tN.w {nn ns nv : Nat} {h h' : mj_H} (a : tN nn h h') : tW nn ns nv h h' := sorry
theorem tW.v {nn ns nv : Nat} {h h' : mj_H} (a : tW nn ns nv h h') : tV h h' := sorry
theorem tW.k {nn ns nv lo : Nat} {h h' : mj_H} (a : tW nn ns nv h h') : tK lo nn h h' := sorry
theorem tW_I {nn ns nv : Nat} (h : mj_H) (g i j : Nat) (v : Int32) (c : (g = 15 ∧ (9 ≤ j ∧ j ≤ 16 ∨ j = 19 ∨ 28 ≤ j ∧ j ≤ 31)) ∨ (87 ≤ g ∧ g ≤ 100 ∧ nn ≤ j) ∨ (79 ≤ g ∧ g ≤ 85 ∧ ns + 2 ≤ j) ∨ (g = 86 ∧ nv ≤ j)) : tW nn ns nv h (mj_sI h g i j v) := sorry
theorem tW_L {nn ns nv : Nat} (h : mj_H) (g i j : Nat) (v : Int64) (c : g = 78 ∧ ns + 2 ≤ j) : tW nn ns nv h (mj_sL h g i j v) := sorry
/-- a new row of the names -/
def nwT (h : mj_H) (ns : Nat) (y : Int64) (k z : Int32) : mj_H := mj_sI (mj_sI (mj_sI (mj_sI (mj_sI (mj_sI (mj_sI (mj_sL (mj_sI h 15 0 28 (nI (ns + 1))) 78 0 (ns + 2) y) 79 0 (ns + 2) k) 80 0 (ns + 2) z) 81 0 (ns + 2) 0) 82 0 (ns + 2) 0) 83 0 (ns + 2) 0) 84 0 (ns + 2) 0) 15 0 19 (nI (ns + 3))
theorem nwT_F (h : mj_H) {nn ns nv : Nat} (y : Int64) (k z : Int32) : tW nn ns nv h (nwT h ns y k z) := sorry
theorem t_new {d ns : Nat} {k z : Int32} {h : mj_H} (h19 : h.1 15 0 19 = nI (ns + 2)) (h28 : h.1 15 0 28 = nI ns) (hl : ns < 200) (hG : h.1 15 0 16 = 0) : mj_R mg (d + 1) mq_229 (0, [(0, vR 15 0), (1, vI k), (2, vI z)], [], h) = some (.inl (some (vI (nI (ns + 2))), nwT h ns (h.2.1 15 0 14) k z)) := sorry
theorem t_newB {d : Nat} {x1 x2 : Int32} {h : mj_H} (hB : h.1 15 0 16 ≠ 0) : mj_R mg (d + 1) mq_229 (0, [(0, vR 15 0), (1, vI x1), (2, vI x2)], [], h) = some (.inl (some (vI 0), h)) := sorry
theorem t_new6 {t : Nat → Nat} {n d br nn u i : Nat} {x1 x2 : Int32} {h : mj_H} {sy : List Sym} {vis : List Nat} {ts : List Tok} {L : List PL} (a : TX t n h sy vis br nn u i ts L) (hl : sy.length = 200) : mj_R mg (d + 1) mq_229 (0, [(0, vR 15 0), (1, vI x1), (2, vI x2)], [], h) = some (.inl (some (vI 0), tfl h (6, some (u, (hd ts).2.1)))) := sorry
theorem TSY_new {h : mj_H} {sy : List Sym} {cs : List Nat} {k size : Nat} (hS : TSY h sy) (hl : sy.length < 200) (hc : okN cs) (hk : 2 ≤ k ∧ k ≤ 11) (hz : size < 300) : TSY (nwT h sy.length (lN (nmC cs)) (nI (kdT k)) (nI (szT k size))) (sy ++ [(cs, k, size)]) := sorry
theorem TVS.ex {h h' : mj_H} {sy sy2 : List Sym} {vis : List Nat} (a : TVS h sy vis) (x : sX sy sy2) (h29 : h'.1 15 0 29 = h.1 15 0 29) (h86 : ∀ j, j < vis.length → h'.1 86 0 j = h.1 86 0 j) : TVS h' sy2 vis := sorry
theorem TP.nw {t : Nat → Nat} {n ns : Nat} {y : Int64} {k z : Int32} {x : PL} {L : List PL} {h : mj_H} (q : TP t n h x L) : TP t n (nwT h ns y k z) x L := sorry
theorem TX.nw {t : Nat → Nat} {n br nn u i k size : Nat} {cs : List Nat} {h : mj_H} {sy : List Sym} {vis : List Nat} {ts : List Tok} {L : List PL} (a : TX t n h sy vis br nn u i ts L) (hl : sy.length < 200) (hc : okN cs) (hk : 2 ≤ k ∧ k ≤ 11) (hz : size < 300) : TX t n (nwT h sy.length (lN (nmC cs)) (nI (kdT k)) (nI (szT k size))) (sy ++ [(cs, k, size)]) vis br nn u i ts L := sorry
/-- a name that is new -/
theorem t_name {t : Nat → Nat} {n d br nn u i k size : Nat} {h : mj_H} {sy : List Sym} {vis : List Nat} {ts : List Tok} {L : List PL} (a : TX t n h sy vis br nn u i ts L) (hl : sy.length < 200) (h1 : (hd ts).1 = 1) (hk : 2 ≤ k ∧ k ≤ 11) (hz : size < 300) : ∃ h', mj_R mg (d + 1) mq_229 (0, [(0, vR 15 0), (1, vI (nI (kdT k))), (2, vI (nI (szT k size)))], [], h) = some (.inl (some (vI (nI (sy.length + 2))), h')) ∧ TX t n h' (sy ++ [((hd ts).2.2.2, k, size)]) vis br nn u i ts L ∧ ∀ nv, tW nn sy.length nv h h' := sorry
/-! names are seen -/
def seT (h : mj_H) (nv : Nat) (x : Int32) : mj_H := mj_sI (mj_sI h 86 0 nv x) 15 0 29 (nI (nv + 1))
theorem t_show {d nv : Nat} {x : Int32} {h : mj_H} (h29 : h.1 15 0 29 = nI nv) (hv : nv < 260) : mj_R mg d mq_228 (0, [(0, vR 15 0), (1, vI x)], [], h) = some (.inl (none, seT h nv x)) := sorry
theorem seT_F {nn ns nv nv' : Nat} (h : mj_H) (x : Int32) (hv : nv ≤ nv') : tW nn ns nv h (seT h nv' x) := sorry
theorem TVS_see {h : mj_H} {sy : List Sym} {vis : List Nat} {s : Nat} (a : TVS h sy vis) (hs : inSy sy s) (hl : vis.length + 1 ≤ sy.length + 2) : TVS (seT h vis.length (nI (tw s))) sy (s :: vis) := sorry
theorem TVS_drop {h : mj_H} {sy : List Sym} {pre vis : List Nat} (a : TVS h sy (pre ++ vis)) : TVS (mj_sI h 15 0 29 (nI vis.length)) sy vis := sorry
theorem TQ.mv {t : Nat → Nat} {n : Nat} {L : List PL} {h h' : mj_H} (a : TQ t n h L) (f1 : ∀ g i j, (g = 15 ∧ (j = 3 ∨ j = 9)) ∨ (72 ≤ g ∧ g ≤ 77) → h'.1 g i j = h.1 g i j) : TQ t n h' L := sorry
theorem TQ.sI {t : Nat → Nat} {n g j : Nat} {v : Int32} {L : List PL} {h : mj_H} (a : TQ t n h L) (hg : ¬ ((g = 15 ∧ (j = 3 ∨ j = 9)) ∨ (72 ≤ g ∧ g ≤ 77))) : TQ t n (mj_sI h g 0 j v) L := sorry
theorem TSY.eq {h h' : mj_H} {sy : List Sym} (a : TSY h sy) (f : ∀ g i j, (g = 15 ∧ (j = 19 ∨ j = 28)) ∨ (79 ≤ g ∧ g ≤ 84) → h'.1 g i j = h.1 g i j) (f2 : h'.2.1 = h.2.1) : TSY h' sy := sorry
theorem TY.see {t : Nat → Nat} {n nn s : Nat} {h : mj_H} {sy : List Sym} {vis : List Nat} {L : List PL} (a : TY t n h sy vis nn L) (hs : inSy sy s) (hl : vis.length + 1 ≤ sy.length + 2) : TY t n (seT h vis.length (nI (tw s))) sy (s :: vis) nn L := sorry
theorem TY.un {t : Nat → Nat} {n nn : Nat} {h : mj_H} {sy : List Sym} {pre vis : List Nat} {L : List PL} (a : TY t n h sy (pre ++ vis) nn L) : TY t n (mj_sI h 15 0 29 (nI vis.length)) sy vis nn L := sorry
theorem TY.st {t : Nat → Nat} {n nn g j : Nat} {v : Int32} {h : mj_H} {sy : List Sym} {vis : List Nat} {L : List PL} (a : TY t n h sy vis nn L) (hg : 87 ≤ g ∧ g ≤ 100) : TY t n (mj_sI h g 0 j v) sy vis nn L := sorry
theorem TPA.ex {nn ns nv : Nat} {h h' : mj_H} {sy sy2 : List Sym} {vis : List Nat} {pa : List (List Nat)} (a : TPA h sy vis pa) (f : tW nn ns nv h h') (x : sX sy sy2) (hv : ∀ s ∈ vis, inSy sy s) (hl : sy.length ≤ 200) : TPA h' sy2 vis pa := sorry
theorem TPA.cons {h : mj_H} {sy : List Sym} {vis : List Nat} {s : Nat} {pa : List (List Nat)} (a : TPA h sy vis pa) (hs : srO sy s ≠ 0) : TPA h sy (s :: vis) pa := sorry
