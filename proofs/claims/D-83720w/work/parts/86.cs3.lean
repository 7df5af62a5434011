/-! the component's reader: processes; their frame, faults, new names -/
def gP (np ns nv : Nat) (h h' : mj_H) : Prop :=
  (∀ g i j, ¬ (g = 6 ∨ (g = 5 ∧ (j = 2 ∨ j = 3 ∨ j = 4 ∨ j = 6 ∨ j = 7)) ∨ (g = 4 ∧ (j = 9 ∨ j = 14)) ∨ (23 ≤ g ∧ g ≤ 28 ∧ np ≤ j) ∨ (g = 34 ∧ ns ≤ j ∧ j < 200) ∨ (g = 47 ∧ nv ≤ j)) → h'.1 g i j = h.1 g i j) ∧
  (∀ g i j, ¬ (g = 6 ∨ ((g = 31 ∨ g = 32) ∧ ns ≤ j ∧ j < 200)) → h'.2.1 g i j = h.2.1 g i j) ∧
  (∀ g i j, ¬ (g = 6 ∨ (g = 22 ∧ np ≤ j) ∨ (g = 33 ∧ ns ≤ j ∧ j < 200)) → h'.2.2 g i j = h.2.2 g i j)
theorem gP.rf (np ns nv : Nat) (h : mj_H) : gP np ns nv h h := sorry
theorem gP.tr {np ns nv : Nat} {h h1 h2 : mj_H} (a : gP np ns nv h h1) (b : gP np ns nv h1 h2) : gP np ns nv h h2 := sorry
theorem gP.le {np ns nv np' ns' nv' : Nat} {h h' : mj_H} (a : gP np' ns' nv' h h') (h1 : np ≤ np') (h2 : ns ≤ ns') (h3 : nv ≤ nv') : gP np ns nv h h' := sorry
theorem gF.gp {np ns nv : Nat} {h h' : mj_H} (a : gF np h h') : gP np ns nv h h' := sorry
theorem gP.k {np ns nv lo : Nat} {h h' : mj_H} (a : gP np ns nv h h') : gK lo np h h' := sorry
theorem gF.k {np lo : Nat} {h h' : mj_H} (a : gF np h h') : gK lo np h h' := sorry
theorem gP_I {np ns nv : Nat} (h : mj_H) (g i j : Nat) (v : Int32) (c : g = 6 ∨ (g = 5 ∧ (j = 2 ∨ j = 3 ∨ j = 4 ∨ j = 6 ∨ j = 7)) ∨ (g = 4 ∧ (j = 9 ∨ j = 14)) ∨ (23 ≤ g ∧ g ≤ 28 ∧ np ≤ j) ∨ (g = 34 ∧ ns ≤ j ∧ j < 200) ∨ (g = 47 ∧ nv ≤ j)) : gP np ns nv h (mj_sI h g i j v) := sorry
theorem gP_L {np ns nv : Nat} (h : mj_H) (g i j : Nat) (v : Int64) (c : (g = 31 ∨ g = 32) ∧ ns ≤ j ∧ j < 200) : gP np ns nv h (mj_sL h g i j v) := sorry
theorem gP_R {np ns nv : Nat} (h : mj_H) (g i j : Nat) (v : Nat) (c : (g = 22 ∧ np ≤ j) ∨ (g = 33 ∧ ns ≤ j ∧ j < 200)) : gP np ns nv h (mj_sR h g i j v) := sorry
/-- the reader's and the tree's own -/
def gZ (h h' : mj_H) : Prop := (∀ g i j, ¬ (4 ≤ g ∧ g ≤ 6 ∨ 22 ≤ g ∧ g ≤ 47) → h'.1 g i j = h.1 g i j) ∧ (∀ g i j, ¬ (4 ≤ g ∧ g ≤ 6 ∨ 22 ≤ g ∧ g ≤ 47) → h'.2.1 g i j = h.2.1 g i j) ∧ (∀ g i j, ¬ (4 ≤ g ∧ g ≤ 6 ∨ 22 ≤ g ∧ g ≤ 47) → h'.2.2 g i j = h.2.2 g i j)
theorem gZ.rf (h : mj_H) : gZ h h := sorry
theorem gZ.tr {h h1 h2 : mj_H} (a : gZ h h1) (b : gZ h1 h2) : gZ h h2 := sorry
theorem gP.z {np ns nv : Nat} {h h' : mj_H} (a : gP np ns nv h h') : gZ h h' := sorry
theorem gF.z {np : Nat} {h h' : mj_H} (a : gF np h h') : gZ h h' := sorry
theorem gZ_I (h : mj_H) (g i j : Nat) (v : Int32) (c : 4 ≤ g ∧ g ≤ 6 ∨ 22 ≤ g ∧ g ≤ 47) : gZ h (mj_sI h g i j v) := sorry
/-- a fault has been told: all that is left of the state -/
def pX (t : Nat → Nat) (n : Nat) (h h' : mj_H) (f : Flt) (B : Nat) : Prop := f.1 ≠ 0 ∧ f.1 < 10 ∧ h'.1 5 0 2 = nI f.1 ∧ h'.1 5 0 3 = (flI f).1 ∧ h'.1 5 0 4 = (flI f).2 ∧ gZ h h' ∧ (∃ np', h'.1 4 0 9 = nI np' ∧ np' ≤ B) ∧ (∃ ns, h'.1 4 0 14 = nI ns ∧ ns ≤ 200) ∧ ∃ LL, CQ t n h' LL
theorem pX.bad {t : Nat → Nat} {n B : Nat} {h h' : mj_H} {f : Flt} (a : pX t n h h' f B) : h'.1 5 0 2 ≠ 0 := sorry
theorem pX.tr {t : Nat → Nat} {n B : Nat} {h h1 h2 : mj_H} {f : Flt} (b : pX t n h1 h2 f B) (a : gZ h h1) : pX t n h h2 f B := sorry
theorem pX.up {t : Nat → Nat} {n B B' : Nat} {h h' : mj_H} {f : Flt} (a : pX t n h h' f B) (hB : B ≤ B') : pX t n h h' f B' := sorry
theorem pB.x {t : Nat → Nat} {n np B ns : Nat} {h h' : mj_H} {f : Flt} (a : pB t n np h h' f B) (hs : h.1 4 0 14 = nI ns) (hn : ns ≤ 200) : pX t n h h' f B := sorry
theorem pX.st {t : Nat → Nat} {n B g i j : Nat} {v : Int32} {h h' : mj_H} {f : Flt} (a : pX t n h h' f B) (c : (g = 5 ∧ (j = 6 ∨ j = 7)) ∨ (23 ≤ g ∧ g ≤ 47)) : pX t n h (mj_sI h' g i j v) f B := sorry
theorem pX.ad {t : Nat → Nat} {n B d w : Nat} {l : Int32} {h h' : mj_H} {f : Flt} (a : pX t n h h' f B) (hB : B < 3100) : ∃ k h2, mj_R mg d mq_35 (0, [(0, vR 4 0), (1, vR 17 w), (2, vI l)], [], h') = some (.inl (some (vI (nI k)), h2)) ∧ k < 3100 ∧ pX t n h h2 f (B + 1) := sorry
/-! names -/
theorem syO_lt {sy : List Sym} {i : Nat} (hl : sy.length ≤ 200) (hi : i < sy.length) : syO sy i = sy[i] := sorry
theorem is_loop {h : mj_H} {sy : List Sym} {cs : List Nat} {d : Nat} {x1 : Int32} (hS : SYc h sy) (hc : okN cs) : ∀ (m i : Nat) (b : Bool), i + m = sy.length → mj_R mg d mq_50 (6, [(7, vI (nI i)), (6, vI (bI b)), (0, vR 5 0), (1, vI x1), (2, vL (lN (pkL (cs.take 8)))), (4, vL (lN (pkL (cs.drop 8))))], [], h) = some (.inl (some (vI (bI (b || (sy.drop i).any fun x => x.1 == cs))), h)) := sorry
theorem q_since {h : mj_H} {sy : List Sym} {cs : List Nat} {d fr : Nat} (hS : SYc h sy) (hc : okN cs) (hf : fr ≤ sy.length) : mj_R mg d mq_50 (0, [(0, vR 5 0), (1, vI (nI fr)), (2, vL (lN (pkL (cs.take 8)))), (4, vL (lN (pkL (cs.drop 8))))], [], h) = some (.inl (some (vI (bI ((sy.drop fr).any fun x => x.1 == cs))), h)) := sorry
/-- a new row in the tables of names -/
def nwN (h : mj_H) (ns : Nat) (cs : List Nat) (k size : Nat) : mj_H := mj_sI (mj_sR (mj_sL (mj_sL (mj_sI h 4 0 14 (nI (ns + 1))) 31 0 ns (lN (pkL (cs.take 8)))) 32 0 ns (lN (pkL (cs.drop 8)))) 33 0 ns (k + 1)) 34 0 ns (nI size)
theorem q_newName {h : mj_H} {sy : List Sym} {cs : List Nat} {d k size : Nat} {x7 : Int32} (hS : SYc h sy) (hl : sy.length < 200) : mj_R mg (d + 1) mq_48 (0, [(0, vR 5 0), (1, vL (lN (pkL (cs.take 8)))), (3, vL (lN (pkL (cs.drop 8)))), (5, vR 18 k), (6, vI (nI size)), (7, vI x7)], [], h) = some (.inl (some (vI (nI sy.length)), nwN h sy.length cs k size)) := sorry
theorem nwN_F (h : mj_H) {np ns nv : Nat} (cs : List Nat) (k size : Nat) (hl : ns < 200) : gP np ns nv h (nwN h ns cs k size) := sorry
def sX (sy sy2 : List Sym) : Prop := ∃ l, sy2 = sy ++ l
theorem sX.rf (sy : List Sym) : sX sy sy := sorry
theorem sX.tr {a b c : List Sym} (x : sX a b) (y : sX b c) : sX a c := sorry
theorem sX.len {a b : List Sym} (x : sX a b) : a.length ≤ b.length := sorry
theorem syO_ex {sy sy2 : List Sym} {s : Nat} (x : sX sy sy2) (hs : inSy sy s) (hl : sy.length ≤ 200) : syO sy2 s = syO sy s := sorry
theorem inSy.ex {sy sy2 : List Sym} {s : Nat} (hs : inSy sy s) (x : sX sy sy2) : inSy sy2 s := sorry
theorem SYc_new {h : mj_H} {sy : List Sym} {cs : List Nat} {k size : Nat} (hS : SYc h sy) (hl : sy.length < 200) (hc : okN cs) (hk : k ≤ 11) (hz : size < 300) : SYc (nwN h sy.length cs k size) (sy ++ [(cs, k, size)]) := sorry
theorem nwN_q {t : Nat → Nat} {n ns k size : Nat} {cs : List Nat} {h : mj_H} {L : List PL} (a : CQ t n h L) : CQ t n (nwN h ns cs k size) L := sorry
theorem VSc.ex {h h' : mj_H} {sy sy2 : List Sym} {vis : List Nat} (a : VSc h sy vis) (x : sX sy sy2) (h5 : h'.1 5 0 6 = h.1 5 0 6) (h47 : ∀ j, j < vis.length → h'.1 47 0 j = h.1 47 0 j) : VSc h' sy2 vis := sorry
theorem CX.nw {t : Nat → Nat} {n br np u i k size : Nat} {cs : List Nat} {h : mj_H} {sy : List Sym} {vis : List Nat} {ts : List Tok} {L : List PL} (a : CX t n h sy vis br np u i ts L) (hl : sy.length < 200) (hc : okN cs) (hk : k ≤ 11) (hz : size < 300) : CX t n (nwN h sy.length cs k size) (sy ++ [(cs, k, size)]) vis br np u i ts L := sorry
