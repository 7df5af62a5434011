/-! the twin's reader: names, nodes -/
/-- the twin's number of a name -/
def tw (s : Nat) : Nat := if s = 200 then 0 else if s = 201 then 1 else s + 2
def kdT (k : Nat) : Nat := [14, 11, 1, 5, 6, 2, 7, 3, 8, 4, 9, 10].getD k 0
def kdS (sy : List Sym) (s : Nat) : Nat := if s = 200 then 12 else if s = 201 then 13 else kdT (srO sy s)
def szT (k z : Nat) : Nat := if k = 5 ∨ k = 6 ∨ k = 9 then z else if k = 0 ∨ k = 1 ∨ k = 11 then 0 else if k = 10 then 2 else 1
def nuT (k z : Nat) : Nat := if k ≤ 1 then z else 0
def nmC (cs : List Nat) : Nat := bsL 38 (cs.map dg38)
def TSY (h : mj_H) (sy : List Sym) : Prop := h.1 15 0 19 = nI (sy.length + 2) ∧ h.1 15 0 28 = nI sy.length ∧ sy.length ≤ 200 ∧ ∀ s, inSy sy s → h.2.1 78 0 (tw s) = lN (nmC (syO sy s).1) ∧ h.1 79 0 (tw s) = nI (kdS sy s) ∧ (s < 200 → h.1 80 0 (tw s) = nI (szT (srO sy s) (szO sy s)) ∧ h.1 84 0 (tw s) = nI (nuT (srO sy s) (szO sy s)) ∧ h.1 83 0 (tw s) = 0) ∧ okN (syO sy s).1 ∧ srO sy s ≤ 11 ∧ szO sy s < 300
def TVS (h : mj_H) (sy : List Sym) (vis : List Nat) : Prop := h.1 15 0 29 = nI vis.length ∧ vis.length ≤ sy.length + 2 ∧ (∀ m s, vis[m]? = some s → h.1 86 0 (vis.length - 1 - m) = nI (tw s)) ∧ ∀ s ∈ vis, inSy sy s
theorem tw_lt {sy : List Sym} {s : Nat} (h : inSy sy s) (hl : sy.length ≤ 200) : tw s < 260 := sorry
theorem dg38_r {c : Nat} (h : isId c = true) : 0 < dg38 c ∧ dg38 c < 38 := sorry
theorem dg38_inj {a b : Nat} (ha : isId a = true) (hb : isId b = true) (h : dg38 a = dg38 b) : a = b := sorry
theorem map_inj38 : ∀ (a b : List Nat), (∀ c ∈ a, isId c = true) → (∀ c ∈ b, isId c = true) → a.map dg38 = b.map dg38 → a = b := sorry
theorem nmC_lt {a : List Nat} (ha : okN a) : nmC a < 2 ^ 63 := sorry
theorem nmC_eq {a b : List Nat} (ha : okN a) (hb : okN b) : lN (nmC a) = lN (nmC b) ↔ a = b := sorry
theorem tfd_loop {h : mj_H} {sy : List Sym} {vis cs : List Nat} {d : Nat} (hS : TSY h sy) (hV : TVS h sy vis) (hc : okN cs) : ∀ (r pre : List Nat) (x3 : Int32), vis = pre ++ r → x3 = nI r.length + (-1) → mj_R mg d mq_227 (7, [(3, vI x3), (0, vR 15 0), (1, vL (lN (nmC cs)))], [], h) = some (.inl (some (vI (match fnd sy r cs with | none => -1 | some s => nI (tw s))), h)) := sorry
theorem t_find {h : mj_H} {sy : List Sym} {vis cs : List Nat} {d : Nat} (hS : TSY h sy) (hV : TVS h sy vis) (hc : okN cs) : mj_R mg d mq_227 (0, [(0, vR 15 0), (1, vL (lN (nmC cs)))], [], h) = some (.inl (some (vI (match fnd sy vis cs with | none => -1 | some s => nI (tw s))), h)) := sorry
/-- what reading in a line leaves alone -/
def tN (nn : Nat) (h h' : mj_H) : Prop := (∀ g i j, ¬ ((g = 15 ∧ (9 ≤ j ∧ j ≤ 16 ∨ j = 31)) ∨ (87 ≤ g ∧ g ≤ 100 ∧ nn ≤ j)) → h'.1 g i j = h.1 g i j) ∧ (∀ g i j, ¬ (g = 15 ∧ j = 14) → h'.2.1 g i j = h.2.1 g i j) ∧ h'.2.2 = h.2.2
def tNw (nn : Nat) (h h' : mj_H) : Prop := (∀ g i j, ¬ ((g = 15 ∧ (9 ≤ j ∧ j ≤ 18 ∨ j = 31)) ∨ (87 ≤ g ∧ g ≤ 100 ∧ nn ≤ j)) → h'.1 g i j = h.1 g i j) ∧ (∀ g i j, ¬ (g = 15 ∧ j = 14) → h'.2.1 g i j = h.2.1 g i j) ∧ h'.2.2 = h.2.2
theorem tN.rf (nn : Nat) (h : mj_H) : tN nn h h := sorry
theorem tN.tr {nn : Nat} {h h1 h2 : mj_H} (a : tN nn h h1) (b : tN nn h1 h2) : tN nn h h2 := sorry
theorem tN.le {nn nn' : Nat} {h h' : mj_H} (a : tN nn' h h') (hl : nn ≤ nn') : tN nn h h' := sorry
theorem tG.n {nn : Nat} {h h' : mj_H} (a : tG h h') : tN nn h h' := sorry
theorem tF.n {nn : Nat} {h h' : mj_H} (a : tF h h') : tN nn h h' := sorry
theorem tN_I {nn : Nat} (h : mj_H) (g i j : Nat) (v : Int32) (c : (g = 15 ∧ (9 ≤ j ∧ j ≤ 16 ∨ j = 31)) ∨ (87 ≤ g ∧ g ≤ 100 ∧ nn ≤ j)) : tN nn h (mj_sI h g i j v) := sorry
theorem tN.wd {nn : Nat} {h h' : mj_H} (a : tN nn h h') : tNw nn h h' := sorry
theorem tNw.tr {nn : Nat} {h h1 h2 : mj_H} (a : tNw nn h h1) (b : tNw nn h1 h2) : tNw nn h h2 := sorry
theorem tNw.le {nn nn' : Nat} {h h' : mj_H} (a : tNw nn' h h') (hl : nn ≤ nn') : tNw nn h h' := sorry
theorem tNw_I {nn : Nat} (h : mj_H) (g i j : Nat) (v : Int32) (c : (g = 15 ∧ (9 ≤ j ∧ j ≤ 18 ∨ j = 31)) ∨ (87 ≤ g ∧ g ≤ 100 ∧ nn ≤ j)) : tNw nn h (mj_sI h g i j v) := sorry
theorem tN_fl {nn : Nat} (h : mj_H) (f : Flt) : tNw nn h (tfl h f) := sorry
theorem TSY.mv {nn : Nat} {h h' : mj_H} {sy : List Sym} (a : TSY h sy) (f : tN nn h h') : TSY h' sy := sorry
theorem TVS.mv {nn : Nat} {h h' : mj_H} {sy : List Sym} {vis : List Nat} (a : TVS h sy vis) (f : tN nn h h') : TVS h' sy vis := sorry
theorem TP.mv {t : Nat → Nat} {n : Nat} {x : PL} {L : List PL} {h h' : mj_H} (a : TP t n h x L) (f1 : ∀ g i j, (g = 15 ∧ (j = 3 ∨ 9 ≤ j ∧ j ≤ 13)) ∨ (72 ≤ g ∧ g ≤ 77) → h'.1 g i j = h.1 g i j) (f2 : h'.2.1 15 0 14 = h.2.1 15 0 14) : TP t n h' x L := sorry
theorem TP.sI {t : Nat → Nat} {n g j : Nat} {v : Int32} {x : PL} {L : List PL} {h : mj_H} (a : TP t n h x L) (hg : ¬ ((g = 15 ∧ (j = 3 ∨ 9 ≤ j ∧ j ≤ 13)) ∨ (72 ≤ g ∧ g ≤ 77))) : TP t n (mj_sI h g 0 j v) x L := sorry
theorem TP.fl {t : Nat → Nat} {n : Nat} {x : PL} {L : List PL} {h : mj_H} (a : TP t n h x L) (f : Flt) : TP t n (tfl h f) x L := sorry
/-- the twin's reader in the midst of a line -/
def TX (t : Nat → Nat) (n : Nat) (h : mj_H) (sy : List Sym) (vis : List Nat) (br nn u i : Nat) (ts : List Tok) (L : List PL) : Prop := TP t n h (u, i, ts) L ∧ h.1 15 0 16 = 0 ∧ h.1 15 0 15 = nI br ∧ h.1 15 0 31 = nI nn ∧ TSY h sy ∧ TVS h sy vis
theorem TX.cf {t : Nat → Nat} {n br nn u i : Nat} {h h' : mj_H} {sy : List Sym} {vis : List Nat} {ts ts' : List Tok} {L : List PL} (a : TX t n h sy vis br nn u i ts L) (f : tF h h') (q : TP t n h' (u, i, ts') L) : TX t n h' sy vis br nn u i ts' L := sorry
/-- a fault has been told -/
def qB (t : Nat → Nat) (n nn : Nat) (h h' : mj_H) (f : Flt) (B : Nat) : Prop := f.1 ≠ 0 ∧ f.1 < 10 ∧ h'.1 15 0 16 = nI f.1 ∧ h'.1 15 0 17 = (flI f).1 ∧ h'.1 15 0 18 = (flI f).2 ∧ tNw nn h h' ∧ (∃ nn', h'.1 15 0 31 = nI nn' ∧ nn ≤ nn' ∧ nn' ≤ B) ∧ ∃ x L, TP t n h' x L
theorem qB.bad {t : Nat → Nat} {n nn B : Nat} {h h' : mj_H} {f : Flt} (a : qB t n nn h h' f B) : h'.1 15 0 16 ≠ 0 := sorry
theorem qB_fl {t : Nat → Nat} {n nn br u i B k p : Nat} {h : mj_H} {sy : List Sym} {vis : List Nat} {ts : List Tok} {L : List PL} (a : TX t n h sy vis br nn u i ts L) (hk : k ≠ 0) (hk2 : k < 10) (hB : nn ≤ B) : qB t n nn h (tfl h (k, some (u, p))) (k, some (u, p)) B := sorry
theorem qB.tr {t : Nat → Nat} {n nn nn' B : Nat} {h h1 h2 : mj_H} {f : Flt} (b : qB t n nn' h1 h2 f B) (a : tN nn h h1) (hl : nn ≤ nn') : qB t n nn h h2 f B := sorry
theorem qB.up {t : Nat → Nat} {n nn B B' : Nat} {h h' : mj_H} {f : Flt} (a : qB t n nn h h' f B) (hB : B ≤ B') : qB t n nn h h' f B' := sorry
theorem qB.st {t : Nat → Nat} {n nn B g j : Nat} {v : Int32} {h h' : mj_H} {f : Flt} (a : qB t n nn h h' f B) (c : (g = 15 ∧ j = 15) ∨ (87 ≤ g ∧ g ≤ 100 ∧ nn ≤ j)) : qB t n nn h (mj_sI h' g 0 j v) f B := sorry
/-- a new node -/
def ndH (h : mj_H) (nn : Nat) (k a b c e l s : Int32) : mj_H := mj_sI (mj_sI (mj_sI (mj_sI (mj_sI (mj_sI (mj_sI (mj_sI (mj_sI (mj_sI (mj_sI h 87 0 nn k) 88 0 nn l) 89 0 nn a) 90 0 nn b) 91 0 nn c) 92 0 nn e) 93 0 nn 0) 94 0 nn 0) 96 0 nn 0) 100 0 nn s) 15 0 31 (nI (nn + 1))
theorem t_node {d nn m K u : Nat} {k a b c e : Int32} {h : mj_H} (hn : h.1 15 0 31 = nI nn) (hnn : nn < 7000) (hm : h.1 15 0 9 = nI m) (hK : h.1 15 0 3 = nI K) (h1 : m < K) (h2 : K ≤ 3001) (hu : h.1 73 0 m = nI u) : mj_R mg d mq_231 (0, [(0, vR 15 0), (1, vI k), (2, vI a), (3, vI b), (4, vI c), (5, vI e)], [], h) = some (.inl (some (vI (nI nn)), ndH h nn k a b c e (nI u) (h.1 15 0 19))) := sorry
theorem ndH_F (h : mj_H) (nn : Nat) (k a b c e l s : Int32) : tN nn h (ndH h nn k a b c e l s) := sorry
theorem ndH_r (h : mj_H) (nn : Nat) (k a b c e l s : Int32) : (ndH h nn k a b c e l s).1 87 0 nn = k ∧ (ndH h nn k a b c e l s).1 88 0 nn = l ∧ (ndH h nn k a b c e l s).1 89 0 nn = a ∧ (ndH h nn k a b c e l s).1 90 0 nn = b ∧ (ndH h nn k a b c e l s).1 91 0 nn = c ∧ (ndH h nn k a b c e l s).1 92 0 nn = e ∧ (ndH h nn k a b c e l s).1 93 0 nn = 0 ∧ (ndH h nn k a b c e l s).1 94 0 nn = 0 ∧ (ndH h nn k a b c e l s).1 96 0 nn = 0 ∧ (ndH h nn k a b c e l s).1 100 0 nn = s ∧ (ndH h nn k a b c e l s).1 15 0 31 = nI (nn + 1) := sorry
theorem ndH_o (h : mj_H) (nn : Nat) (k a b c e l s : Int32) (j : Nat) (hj : j ≠ 31) : (ndH h nn k a b c e l s).1 15 0 j = h.1 15 0 j := sorry
theorem TP.nd {t : Nat → Nat} {n nn : Nat} {k a b c e l s : Int32} {x : PL} {L : List PL} {h : mj_H} (q : TP t n h x L) : TP t n (ndH h nn k a b c e l s) x L := sorry
theorem TX.nd {t : Nat → Nat} {n br nn u i : Nat} {k a b c e l s : Int32} {h : mj_H} {sy : List Sym} {vis : List Nat} {ts : List Tok} {L : List PL} (q : TX t n h sy vis br nn u i ts L) : TX t n (ndH h nn k a b c e l s) sy vis br (nn + 1) u i ts L := sorry
theorem TX.st {t : Nat → Nat} {n br nn u i g j : Nat} {v : Int32} {h : mj_H} {sy : List Sym} {vis : List Nat} {ts : List Tok} {L : List PL} (q : TX t n h sy vis br nn u i ts L) (hg : 87 ≤ g ∧ g ≤ 100) : TX t n (mj_sI h g 0 j v) sy vis br nn u i ts L := sorry
theorem TX.sb {t : Nat → Nat} {n br br' nn u i : Nat} {h : mj_H} {sy : List Sym} {vis : List Nat} {ts : List Tok} {L : List PL} (q : TX t n h sy vis br nn u i ts L) : TX t n (mj_sI h 15 0 15 (nI br')) sy vis br' nn u i ts L := sorry
theorem TX.node {t : Nat → Nat} {n br nn u i d : Nat} {k a b c e : Int32} {h : mj_H} {sy : List Sym} {vis : List Nat} {ts : List Tok} {L : List PL} (q : TX t n h sy vis br nn u i ts L) (hn : nn < 7000) : mj_R mg d mq_231 (0, [(0, vR 15 0), (1, vI k), (2, vI a), (3, vI b), (4, vI c), (5, vI e)], [], h) = some (.inl (some (vI (nI nn)), ndH h nn k a b c e (nI u) (h.1 15 0 19))) := sorry
theorem qB.node {t : Nat → Nat} {n nn B d : Nat} {k a b c e : Int32} {h h' : mj_H} {f : Flt} (q : qB t n nn h h' f B) (hB : B < 7000) : ∃ j h2, mj_R mg d mq_231 (0, [(0, vR 15 0), (1, vI k), (2, vI a), (3, vI b), (4, vI c), (5, vI e)], [], h') = some (.inl (some (vI (nI j)), h2)) ∧ nn ≤ j ∧ j < 7000 ∧ qB t n nn h h2 f (B + 1) := sorry
