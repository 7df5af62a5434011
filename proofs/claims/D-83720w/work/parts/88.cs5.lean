/-! the component's reader: declarations -/
def wt : List PL → Nat
  | [] => 0
  | x :: r => x.2.2.length + wt r
theorem tkl_ne {t : Nat → Nat} {b e : Nat} : ∀ m p, 1 ≤ (tkl t b e m p).length := sorry
theorem CX.ne {t : Nat → Nat} {n br np u i : Nat} {h : mj_H} {sy : List Sym} {vis : List Nat} {ts : List Tok} {L : List PL} (a : CX t n h sy vis br np u i ts L) : 1 ≤ ts.length := sorry
def pP (t : Nat → Nat) (n : Nat) (vis : List Nat) (sy : List Sym) (np bd : Nat) (L : List PL) (h : mj_H) (v : Option mj_V) (h' : mj_H) : PrR → Prop
  | .inl f => (∃ r, v = some (vI r)) ∧ pX t n h h' f 3070
  | .inr x => ∃ k np', v = some (vI (nI k)) ∧ CY t n h' x.2.1 vis np' x.2.2 ∧ gP np sy.length vis.length h h' ∧ sX sy x.2.1 ∧ rZ np np' h' x.1 k ∧ np ≤ k ∧ k < np' ∧ h'.1 27 0 k = -1 ∧ np' + wt x.2.2 ≤ bd ∧ x.2.2 <:+ L
def PrK (pa : List (List Nat)) (m : Nat) : Prop := ∀ (t : Nat → Nat) (n D : Nat) (h : mj_H) (lv : Nat) (vis : List Nat) (sy : List Sym) (np : Nat) (L : List PL), CY t n h sy vis np L → PAc h sy vis pa → (∀ y ∈ L, frs y) → np + wt L ≤ 3030 → L.length ≤ 2990 → lv ≤ 16 → (17 - lv) + (200 - sy.length) ≤ m → 4 * m + 60 ≤ D → mP (mj_R mg D mq_69 (0, [(0, vR 5 0), (1, vI (nI lv))], [], h)) (fun v h' => pP t n vis sy np (np + wt L) L.tail h v h' (proS pa m lv vis sy L))
theorem PAc.ex {np ns nv : Nat} {h h' : mj_H} {sy sy2 : List Sym} {vis : List Nat} {pa : List (List Nat)} (a : PAc h sy vis pa) (f : gP np ns nv h h') (x : sX sy sy2) (hv : ∀ s ∈ vis, inSy sy s) (hl : sy.length ≤ 200) : PAc h' sy2 vis pa := sorry
theorem PAc.cons {h : mj_H} {sy : List Sym} {vis : List Nat} {s : Nat} {pa : List (List Nat)} (a : PAc h sy vis pa) (hs : srO sy s ≠ 0) : PAc h sy (s :: vis) pa := sorry
/-- a part w, at c, behind which nothing is yet -/
def nS (w u c : Nat) (h : mj_H) : Prop := h.2.2 22 0 c = w + 1 ∧ h.1 28 0 c = nI u ∧ h.1 27 0 c = -1
theorem nS.mv {w u c lo hi : Nat} {h h' : mj_H} (a : nS w u c h) (f : gK lo hi h h') (h1 : lo ≤ c) (h2 : c < hi) : nS w u c h' := sorry
theorem nS.st {w u c k j : Nat} {v : Int32} {h : mj_H} (a : nS w u c h) (hk : 23 ≤ k ∧ k ≤ 26) : nS w u c (mj_sI h k 0 j v) := sorry
theorem nS.n {w u c lo hi : Nat} {h : mj_H} (a : nS w u c h) (h1 : lo ≤ c) (h2 : c < hi) : rN u lo hi h c w := sorry
theorem nS_ad (h : mj_H) (np w u : Nat) : nS w u np (adP h np w (nI u)) := sorry
theorem seeS_one (vis : List Nat) (f : Nat) : ∀ m, seeS (f :: vis) (f + 1) m = seeS vis f (m + 1) := sorry
theorem seeS_app (vis : List Nat) (f : Nat) : ∀ m, ∃ pre, seeS vis f m = pre ++ vis ∧ pre.length = m := sorry
theorem nI_sub {a b : Nat} (h : b ≤ a) : nI a - nI b = nI (a - b) := sorry
theorem dc_see {t : Nat → Nat} {n d np k5 L0 : Nat} {x1 x2 x3 x4 x6 x7 : Int32} {sy : List Sym} {L : List PL} : ∀ (m k : Nat) (h : mj_H) (vis : List Nat), k + m = sy.length → CY t n h sy vis np L → vis.length + m ≤ sy.length + 2 → ∃ h', mj_R mg (d + 2) mq_71 (235, [(8, vI (nI k)), (7, vI x7), (6, vI x6), (5, vR 18 k5), (4, vI x4), (3, vI x3), (2, vI x2), (0, vR 5 0), (1, vI x1)], [], h) = mj_R mg (d + 2) mq_71 (235, [(8, vI (nI sy.length)), (7, vI x7), (6, vI x6), (5, vR 18 k5), (4, vI x4), (3, vI x3), (2, vI x2), (0, vR 5 0), (1, vI x1)], [], h') ∧ CY t n h' sy (seeS vis k m) np L ∧ ∀ a b, gP a b vis.length h h' := sorry
theorem dc_seeB {d k5 ns : Nat} {x1 x2 x3 x4 x6 x7 : Int32} {h : mj_H} (hB : h.1 5 0 2 ≠ 0) (hs : h.1 4 0 14 = nI ns) (hn : ns ≤ 200) : ∀ (m k : Nat), k ≤ 200 → ns ≤ k + m → ∃ k', k' ≤ 400 ∧ ns ≤ k' ∧ mj_R mg (d + 2) mq_71 (235, [(8, vI (nI k)), (7, vI x7), (6, vI x6), (5, vR 18 k5), (4, vI x4), (3, vI x3), (2, vI x2), (0, vR 5 0), (1, vI x1)], [], h) = mj_R mg (d + 2) mq_71 (235, [(8, vI (nI k')), (7, vI x7), (6, vI x6), (5, vR 18 k5), (4, vI x4), (3, vI x3), (2, vI x2), (0, vR 5 0), (1, vI x1)], [], h) := sorry
abbrev pXv (t : Nat → Nat) (n : Nat) (h : mj_H) (f : Flt) (B : Nat) (v : Option mj_V) (h' : mj_H) : Prop := (∃ r, v = some (vI r)) ∧ pX t n h h' f B
theorem dcB235 {t : Nat → Nat} {n d c k k5 B : Nat} {x1 x3 x4 x6 x7 : Int32} {h h1 : mj_H} {f : Flt} (b : pX t n h h1 f B) (hc : c < 3100) (hk : k ≤ 200) : mP (mj_R mg (d + 2) mq_71 (235, [(8, vI (nI k)), (7, vI x7), (6, vI x6), (5, vR 18 k5), (4, vI x4), (3, vI x3), (2, vI (nI c)), (0, vR 5 0), (1, vI x1)], [], h1)) (pXv t n h f B) := sorry
theorem dcB191 {t : Nat → Nat} {n d c fr k5 B : Nat} {x1 x3 x4 x7 : Int32} {h h1 : mj_H} {f : Flt} (b : pX t n h h1 f B) (hc : c < 3100) (hf : fr ≤ 200) : mP (mj_R mg (d + 7) mq_71 (191, [(7, vI x7), (6, vI (nI fr)), (5, vR 18 k5), (4, vI x4), (3, vI x3), (2, vI (nI c)), (0, vR 5 0), (1, vI x1)], [], h1)) (pXv t n h f B) := sorry
theorem dcB52 {t : Nat → Nat} {n d c B : Nat} {x1 x3 : Int32} {h h1 : mj_H} {f : Flt} (b : pX t n h h1 f B) (hc : c < 3100) : mP (mj_R mg (d + 7) mq_71 (52, [(3, vI x3), (2, vI (nI c)), (0, vR 5 0), (1, vI x1)], [], h1)) (pXv t n h f B) := sorry
/-- behind a declaration's names -/
def dcT (pa : List (List Nat)) (m lv fr u : Nat) (vis : List Nat) (L : List PL) (sy : List Sym) (ts : List Tok) : PrR :=
  bnd (lft u (bnd (tkS (isS 58 (hd ts)) ts) fun r2 => bnd (endS r2) fun _ => .inr sy)) fun sy3 =>
  bnd (proS pa m lv (seeS vis fr (sy3.length - fr)) sy3 L) fun x => .inr (.div (.index u) (.rem (.elem (.index fr) (.index (sy3.length - fr))) x.1), x.2)
theorem dc191 {t : Nat → Nat} {n d m lv u i c k5 size : Nat} {x4 : Int32} {h h1 : mj_H} {sy sy2 : List Sym} {vis : List Nat} {ts : List Tok} {L L0 : List PL} {pa : List (List Nat)} {bd : Nat} (PK : PrK pa m) (a : CX t n h1 sy2 vis 0 (c + 1) u i ts L) (g : gP c sy.length vis.length h h1) (x : sX sy sy2) (hfr : sy.length < sy2.length) (hv : vis.length ≤ sy.length + 2) (hP : PAc h1 sy2 vis pa) (hns : ∀ s, sy.length ≤ s → s < sy2.length → srO sy2 s ≠ 0) (N : nS 15 u c h1) (hF : ∀ y ∈ L, frs y) (hb : c + 1 + wt L ≤ 3030) (hL : L.length ≤ 2990) (hlv : lv ≤ 16) (hm : (17 - lv) + (200 - sy2.length) ≤ m) (hbd : c + 1 + wt L ≤ bd) (hsf : L <:+ L0) : mP (mj_R mg (d + 4 * m + 63) mq_71 (191, [(7, vI (nI vis.length)), (6, vI (nI sy.length)), (5, vR 18 k5), (4, vI x4), (3, vI (nI size)), (2, vI (nI c)), (0, vR 5 0), (1, vI (nI lv))], [], h1)) (fun v h' => pP t n vis sy c bd L0 h v h' (dcT pa m lv sy.length u vis L sy2 ts)) := sorry
