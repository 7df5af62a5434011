/-! the component's reader: parts -/
/-- what reading an expression leaves alone -/
def gF (np : Nat) (h h' : mj_H) : Prop := (∀ g i j, ¬ (g = 6 ∨ (g = 5 ∧ (j = 2 ∨ j = 3 ∨ j = 4 ∨ j = 7)) ∨ (g = 4 ∧ j = 9) ∨ (23 ≤ g ∧ g ≤ 28 ∧ np ≤ j)) → h'.1 g i j = h.1 g i j) ∧ (∀ g i j, g ≠ 6 → h'.2.1 g i j = h.2.1 g i j) ∧ (∀ g i j, ¬ (g = 6 ∨ (g = 22 ∧ np ≤ j)) → h'.2.2 g i j = h.2.2 g i j)
theorem gF.rf (np : Nat) (h : mj_H) : gF np h h := sorry
theorem gF.tr {np : Nat} {h h1 h2 : mj_H} (a : gF np h h1) (b : gF np h1 h2) : gF np h h2 := sorry
theorem gF.le {np np' : Nat} {h h' : mj_H} (a : gF np' h h') (hl : np ≤ np') : gF np h h' := sorry
theorem cG.gf {np : Nat} {h h' : mj_H} (a : cG h h') : gF np h h' := sorry
theorem gF_I {np : Nat} (h : mj_H) (g i j : Nat) (v : Int32) (c : g = 6 ∨ (g = 5 ∧ (j = 2 ∨ j = 3 ∨ j = 4 ∨ j = 7)) ∨ (g = 4 ∧ j = 9) ∨ (23 ≤ g ∧ g ≤ 28 ∧ np ≤ j)) : gF np h (mj_sI h g i j v) := sorry
theorem gF_R {np : Nat} (h : mj_H) (i j : Nat) (v : Nat) (c : np ≤ j) : gF np h (mj_sR h 22 i j v) := sorry
theorem gF_fl {np : Nat} (h : mj_H) (f : Flt) : gF np h (fl h f) := sorry
theorem SYc.mv {np : Nat} {h h' : mj_H} {sy : List Sym} (a : SYc h sy) (f : gF np h h') : SYc h' sy := sorry
theorem VSc.mv {np : Nat} {h h' : mj_H} {sy : List Sym} {vis : List Nat} (a : VSc h sy vis) (f : gF np h h') : VSc h' sy vis := sorry
/-- the reader in the midst of a line -/
def CX (t : Nat → Nat) (n : Nat) (h : mj_H) (sy : List Sym) (vis : List Nat) (br np u i : Nat) (ts : List Tok) (L : List PL) : Prop := CQ t n h ((u, i, ts) :: L) ∧ h.1 5 0 2 = 0 ∧ h.1 5 0 7 = nI br ∧ h.1 4 0 9 = nI np ∧ SYc h sy ∧ VSc h sy vis
theorem CX.cg {t : Nat → Nat} {n br np u i : Nat} {h h' : mj_H} {sy : List Sym} {vis : List Nat} {ts ts' : List Tok} {L : List PL} (a : CX t n h sy vis br np u i ts L) (f : cG h h') (q : CQ t n h' ((u, i, ts') :: L)) : CX t n h' sy vis br np u i ts' L := sorry
/-- a fault has been told -/
def pB (t : Nat → Nat) (n np : Nat) (h h' : mj_H) (f : Flt) (B : Nat) : Prop := f.1 ≠ 0 ∧ f.1 < 10 ∧ h'.1 5 0 2 = nI f.1 ∧ h'.1 5 0 3 = (flI f).1 ∧ h'.1 5 0 4 = (flI f).2 ∧ gF np h h' ∧ (∃ np', h'.1 4 0 9 = nI np' ∧ np ≤ np' ∧ np' ≤ B) ∧ ∃ LL, CQ t n h' LL
theorem pB.bad {t : Nat → Nat} {n np B : Nat} {h h' : mj_H} {f : Flt} (a : pB t n np h h' f B) : h'.1 5 0 2 ≠ 0 := sorry
theorem CQ.mv {t : Nat → Nat} {n : Nat} {h h' : mj_H} {L : List PL} (a : CQ t n h L) (f6 : h'.1 6 = h.1 6 ∧ h'.2.1 6 = h.2.1 6 ∧ h'.2.2 6 = h.2.2 6) (f3 : h'.1 3 = h.1 3) (f21 : h'.1 21 = h.1 21) : CQ t n h' L := sorry
theorem CQ.sI {t : Nat → Nat} {n g i j : Nat} {v : Int32} {h : mj_H} {L : List PL} (a : CQ t n h L) (hg : g ≠ 6 ∧ g ≠ 3 ∧ g ≠ 21) : CQ t n (mj_sI h g i j v) L := sorry
theorem CQ.sR {t : Nat → Nat} {n g i j v : Nat} {h : mj_H} {L : List PL} (a : CQ t n h L) (hg : g ≠ 6) : CQ t n (mj_sR h g i j v) L := sorry
theorem CQ.fl {t : Nat → Nat} {n : Nat} {f : Flt} {h : mj_H} {L : List PL} (a : CQ t n h L) : CQ t n (fl h f) L := sorry
theorem pB_fl {t : Nat → Nat} {n np br u i B k p : Nat} {h : mj_H} {sy : List Sym} {vis : List Nat} {ts : List Tok} {L : List PL} (a : CX t n h sy vis br np u i ts L) (hk : k ≠ 0) (hk2 : k < 10) (hB : np ≤ B) : pB t n np h (fl h (k, some (u, p))) (k, some (u, p)) B := sorry
theorem pB.tr {t : Nat → Nat} {n np np' B : Nat} {h h1 h2 : mj_H} {f : Flt} (a : gF np h h1) (b : pB t n np' h1 h2 f B) (hl : np ≤ np') : pB t n np h h2 f B := sorry
/-- in a bad state: nothing comes of a wish for a token -/
theorem b_is {t : Nat → Nat} {n d : Nat} {x : Int32} {L : List PL} {h : mj_H} (a : CQ t n h L) : ∃ b, mj_R mg d mq_100 (0, [(0, vR 6 0), (1, vI x)], [], h) = some (.inl (some (vI (bI b)), h)) := sorry
theorem b_isW {t : Nat → Nat} {n d w : Nat} {L : List PL} {h : mj_H} (a : CQ t n h L) : ∃ b, mj_R mg d mq_101 (0, [(0, vR 6 0), (1, vR 16 w)], [], h) = some (.inl (some (vI (bI b)), h)) := sorry
theorem b_takeI {t : Nat → Nat} {n d : Nat} {x : Int32} {L : List PL} {h : mj_H} (a : CQ t n h L) (hB : h.1 5 0 2 ≠ 0) : mj_R mg (d + 6) mq_41 (0, [(0, vR 5 0), (1, vI x)], [], h) = some (.inl (none, h)) := sorry
theorem b_takeW {t : Nat → Nat} {n d w : Nat} {L : List PL} {h : mj_H} (a : CQ t n h L) (hB : h.1 5 0 2 ≠ 0) : mj_R mg (d + 6) mq_42 (0, [(0, vR 5 0), (1, vR 16 w)], [], h) = some (.inl (none, h)) := sorry
/-- a name that there is -/
theorem q_known {t : Nat → Nat} {n d br np u i : Nat} {sy : List Sym} {vis : List Nat} {ts : List Tok} {L : List PL} {h : mj_H} (a : CX t n h sy vis br np u i ts L) : mP (mj_R mg (d + 6) mq_54 (0, [(0, vR 5 0)], [], h)) (fun v h' => match knS sy vis ts with | .inl f => (∃ r, v = some (vI r)) ∧ (f.1 = 1 ∨ f.1 = 3) ∧ h' = fl h (f.1, some (u, f.2)) | .inr x => v = some (vI (nI x.1)) ∧ cG h h' ∧ CQ t n h' ((u, i, x.2) :: L) ∧ inSy sy x.1 ∧ x.2.length + 1 = ts.length) := sorry
/-- a new part -/
def adP (h : mj_H) (np w : Nat) (l : Int32) : mj_H := mj_sI (mj_sI (mj_sI (mj_sI (mj_sI (mj_sI (mj_sR (mj_sI h 4 0 9 (nI (np + 1))) 22 0 np (w + 1)) 23 0 np (-1)) 24 0 np (-1)) 25 0 np (-1)) 26 0 np 0) 27 0 np (-1)) 28 0 np l
theorem q_add {d np w : Nat} {l : Int32} {h : mj_H} (hp : h.1 4 0 9 = nI np) (hn : np < 3100) : mj_R mg d mq_35 (0, [(0, vR 4 0), (1, vR 17 w), (2, vI l)], [], h) = some (.inl (some (vI (nI np)), adP h np w l)) := sorry
theorem adP_F (h : mj_H) (np w : Nat) (l : Int32) : gF np h (adP h np w l) := sorry
theorem adP_q {t : Nat → Nat} {n np w : Nat} {l : Int32} {h : mj_H} {L : List PL} (a : CQ t n h L) : CQ t n (adP h np w l) L := sorry
theorem adP_r (h : mj_H) (np w : Nat) (l : Int32) : (adP h np w l).1 4 0 9 = nI (np + 1) ∧ (adP h np w l).2.2 22 0 np = w + 1 ∧ (adP h np w l).1 28 0 np = l ∧ (adP h np w l).1 5 = h.1 5 := sorry
/-- an expression, from part lo to part hi, of line u -/
def rN (u lo hi : Nat) (h : mj_H) (k w : Nat) : Prop := lo ≤ k ∧ k < hi ∧ h.2.2 22 0 k = w + 1 ∧ h.1 28 0 k = nI u
def rE (u lo hi : Nat) (h : mj_H) : Tm → Nat → Prop
  | .int v, k => rN u lo hi h k 16 ∧ h.1 26 0 k = v
  | .arg s, k => rN u lo hi h k 17 ∧ h.1 26 0 k = nI s ∧ s < 202
  | .elem (.arg s) e, k => rN u lo hi h k 18 ∧ h.1 26 0 k = nI s ∧ s < 202 ∧ ∃ j, h.1 23 0 k = nI j ∧ rE u lo hi h e j
  | .length e, k => rN u lo hi h k 20 ∧ ∃ j, h.1 23 0 k = nI j ∧ rE u lo hi h e j
  | .sum e, k => rN u lo hi h k 21 ∧ ∃ j, h.1 23 0 k = nI j ∧ rE u lo hi h e j
  | .add (.index o) (.sub x y), k => rN u lo hi h k 19 ∧ h.1 26 0 k = nI o ∧ ∃ j l, h.1 23 0 k = nI j ∧ h.1 24 0 k = nI l ∧ rE u lo hi h x j ∧ rE u lo hi h y l
  | .old e, k => rE u lo hi h e k
  | _, _ => False
theorem rN.mv {u lo hi lo' hi' k w : Nat} {h h' : mj_H} (a : rN u lo hi h k w) (hl : lo' ≤ lo) (hh : hi ≤ hi') (f : gF hi h h') : rN u lo' hi' h' k w := sorry
theorem rE.mv {u lo hi lo' hi' : Nat} {h h' : mj_H} (hl : lo' ≤ lo) (hh : hi ≤ hi') (f : gF hi h h') : ∀ (e : Tm) (k : Nat), rE u lo hi h e k → rE u lo' hi' h' e k := sorry
