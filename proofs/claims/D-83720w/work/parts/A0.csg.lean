/-! the component's reader: PROCs -/
/-- the tables of bodies, links, roots -/
def PBc (h : mj_H) (np q : Nat) (bs : List Tm) (lk : List (Nat × Nat)) (rt : List (Nat × Tm)) : Prop :=
  ∃ rg : Nat → Nat × Nat, rgs np bs.length rt rg ∧ h.1 4 0 17 = nI q ∧ h.1 4 0 25 = nI lk.length ∧ lk.length ≤ 12 ∧
  (∀ k B, bs[k]? = some B → ∃ x, h.1 38 0 k = nI x ∧ rQ (rg (2 * k)).1 (rg (2 * k)).2 h B 0 (nI x)) ∧
  (∀ k x, lk[k]? = some x → h.1 44 0 k = nI x.1 ∧ h.1 45 0 k = nI x.2 ∧ x.1 ≤ 5 ∧ x.2 ≤ 5 ∧ x.1 ≠ x.2) ∧
  (∀ k, k < 6 → match rt.find? (fun x => x.1 == k) with | none => h.1 46 0 k = -1 | some x => ∃ j, h.1 46 0 k = nI j ∧ rQ (rg (2 * k + 1)).1 (rg (2 * k + 1)).2 h x.2 0 (nI j))
theorem gt_lt {α : Type} {l : List α} {k : Nat} {x : α} (h : l[k]? = some x) : k < l.length := sorry
theorem PBc.p1 {h : mj_H} {np q : Nat} {bs : List Tm} {lk : List (Nat × Nat)} {rt : List (Nat × Tm)} (a : PBc h np q bs lk rt) : h.1 4 0 17 = nI q := sorry
theorem PBc.p2 {h : mj_H} {np q : Nat} {bs : List Tm} {lk : List (Nat × Nat)} {rt : List (Nat × Tm)} (a : PBc h np q bs lk rt) : h.1 4 0 25 = nI lk.length := sorry
theorem PBc.p3 {h : mj_H} {np q : Nat} {bs : List Tm} {lk : List (Nat × Nat)} {rt : List (Nat × Tm)} (a : PBc h np q bs lk rt) : lk.length ≤ 12 := sorry
theorem PBc.p6 {h : mj_H} {np q : Nat} {bs : List Tm} {lk : List (Nat × Nat)} {rt : List (Nat × Tm)} (a : PBc h np q bs lk rt) : ∀ k, k < 6 → match rt.find? (fun x => x.1 == k) with | none => h.1 46 0 k = -1 | some x => ∃ j lo hi, h.1 46 0 k = nI j ∧ hi ≤ np ∧ rQ lo hi h x.2 0 (nI j) := sorry
theorem PBc.mv {np np' ns nv p q : Nat} {h h' : mj_H} {bs : List Tm} {lk : List (Nat × Nat)} {rt : List (Nat × Tm)} (a : PBc h np q bs lk rt) (f : gU np ns nv p h h') (hn : np ≤ np') : PBc h' np' q bs lk rt := sorry
theorem PBc.s17 {np q q' : Nat} {h : mj_H} {bs : List Tm} {lk : List (Nat × Nat)} {rt : List (Nat × Tm)} (a : PBc h np q bs lk rt) : PBc (mj_sI h 4 0 17 (nI q')) np q' bs lk rt := sorry
theorem PAc.s17 {h : mj_H} {v : Int32} {sy : List Sym} {vis : List Nat} {pa : List (List Nat)} {j : Nat} (a : PAc h sy vis pa) : PAc (mj_sI h 4 0 j v) sy vis pa := sorry
theorem gU.rf (np ns nv p : Nat) (h : mj_H) : gU np ns nv p h h := sorry
theorem gloS_z (k z most has : Nat) (sy : List Sym) (ts : List Tok) : gloS k z most has sy ts = bnd (gloS k 0 most has sy ts) fun x => .inr (sy ++ [((hd ts).2.2.2, k, z)], x.2) := sorry
theorem gloS_has {k z most has : Nat} {sy : List Sym} {ts : List Tok} {x : List Sym × List Tok} (h : gloS k z most has sy ts = .inr x) : has ≠ most := sorry
theorem SYc_size {h : mj_H} {sy : List Sym} {cs : List Nat} {k z z' : Nat} (a : SYc h (sy ++ [(cs, k, z)])) (hz : z' < 300) : SYc (mj_sI h 34 0 sy.length (nI z')) (sy ++ [(cs, k, z')]) := sorry
theorem VSc_sz {h : mj_H} {sy : List Sym} {vis : List Nat} {cs : List Nat} {k z z' : Nat} (a : VSc h (sy ++ [(cs, k, z)]) vis) {g j : Nat} {v : Int32} (hg : g ≠ 5 ∧ g ≠ 47) : VSc (mj_sI h g 0 j v) (sy ++ [(cs, k, z')]) vis := sorry
theorem prB162 {t : Nat → Nat} {n d p B : Nat} {x2 x3 x4 s0 : Int32} {h h1 : mj_H} {f : Flt} (b : pX t n h h1 f B) (hp : p < 24) : mP (mj_R mg (d + 7) mq_86 (162, [(4, vI x4), (3, vI x3), (2, vI x2), (1, vI (nI p)), (0, vR 5 0)], [vI s0, vI (nI p), vR 38 0], h1)) (pXn t n h f B) := sorry
theorem prB92 {t : Nat → Nat} {n d p B : Nat} {x2 x3 x4 : Int32} {h h1 : mj_H} {f : Flt} (b : pX t n h h1 f B) (hp : p < 24) : mP (mj_R mg (d + 7) mq_86 (92, [(4, vI x4), (3, vI x3), (2, vI x2), (1, vI (nI p)), (0, vR 5 0)], [], h1)) (pXn t n h f B) := sorry
theorem pr_see {t : Nat → Nat} {n d np p fr cnt : Nat} {x2 x3 : Int32} {sy : List Sym} {L : List PL} (hp : p < 24) (hc : cnt ≤ 6) : ∀ (m j : Nat) (h : mj_H) (vis : List Nat), j + m = cnt → CY t n h sy vis np L → parI h p fr cnt → fr + cnt ≤ sy.length → vis.length + m ≤ sy.length + 2 → ∃ h', mj_R mg (d + 2) mq_86 (92, [(4, vI (nI j)), (3, vI x3), (2, vI x2), (1, vI (nI p)), (0, vR 5 0)], [], h) = mj_R mg (d + 2) mq_86 (138, [(4, vI (nI cnt)), (3, vI x3), (2, vI x2), (1, vI (nI p)), (0, vR 5 0)], [], h') ∧ CY t n h' sy (seeS vis (fr + j) m) np L ∧ ∀ a b, gP a b vis.length h h' := sorry
