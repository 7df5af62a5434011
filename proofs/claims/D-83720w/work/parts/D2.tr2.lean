/-! the twin's reader: kinds, operations, expressions as nodes -/
theorem t_val {x d : Nat} {h : mj_H} (hx : x < 100) : mj_R mg d mq_233 (0, [(0, vI (nI x))], [], h) = some (.inl (some (vI (bI (x == 1 || x == 5 || x == 6 || x == 9 || x == 10))), h)) := sorry
theorem t_arr {x d : Nat} {h : mj_H} (hx : x < 100) : mj_R mg d mq_235 (0, [(0, vI (nI x))], [], h) = some (.inl (some (vI (bI (x == 2 || x == 7))), h)) := sorry
theorem t_var {x d : Nat} {h : mj_H} (hx : x < 100) : mj_R mg d mq_234 (0, [(0, vI (nI x))], [], h) = some (.inl (some (vI (bI (x == 1 || x == 6))), h)) := sorry
theorem t_chn {x d : Nat} {h : mj_H} (hx : x < 100) : mj_R mg d mq_236 (0, [(0, vI (nI x))], [], h) = some (.inl (some (vI (bI (x == 3 || x == 8 || x == 11 || x == 12 || x == 13))), h)) := sorry
theorem kdT_ok : ∀ k, k < 12 → kdT k < 20 ∧ (kdT k == 1 || kdT k == 5 || kdT k == 6 || kdT k == 9 || kdT k == 10) = sVal k ∧ (kdT k == 2 || kdT k == 7) = sArr k ∧ (kdT k == 1 || kdT k == 6) = sVar k ∧ (kdT k == 3 || kdT k == 8 || kdT k == 11 || kdT k == 12 || kdT k == 13) = sChn k ∧ (kdT k == 4) = (k == 9) ∧ (kdT k == 14) = (k == 0) ∧ (kdT k == 5) = (k == 3) ∧ (kdT k == 7) = (k == 6) ∧ (kdT k == 8) = (k == 8) := sorry
theorem kdS_ok {sy : List Sym} {s : Nat} (hk : srO sy s ≤ 11) : kdS sy s < 20 ∧ (kdS sy s == 1 || kdS sy s == 5 || kdS sy s == 6 || kdS sy s == 9 || kdS sy s == 10) = sVal (srO sy s) ∧ (kdS sy s == 2 || kdS sy s == 7) = sArr (srO sy s) ∧ (kdS sy s == 1 || kdS sy s == 6) = sVar (srO sy s) ∧ (kdS sy s == 3 || kdS sy s == 8 || kdS sy s == 11 || kdS sy s == 12 || kdS sy s == 13) = sChn (srO sy s) ∧ (kdS sy s == 4) = (srO sy s == 9) ∧ (kdS sy s == 14) = (srO sy s == 0) ∧ (kdS sy s == 5) = (srO sy s == 3) ∧ (kdS sy s == 7) = (srO sy s == 6) ∧ (kdS sy s == 8) = (srO sy s == 8) := sorry
/-- the twin's code of an operation -/
def opT (o : Nat) : Nat := if o = 65 then 17 else if o = 79 then 18 else sgT o
theorem t_op {d : Nat} {h : mj_H} {k : Tok} (hk : TTk h k) (hw : tkW k) (hv : tkV k) : mj_R mg d mq_238 (0, [(0, vR 15 0)], [], h) = some (.inl (some (vI (if isO k then nI (opT (opC k)) else 0)), h)) := sorry
theorem opT_ne {k : Tok} (hv : tkV k) (hO : isO k = true) : ¬ nI (opT (opC k)) = 0 := sorry
/-- nodes -/
def tM (u lo hi : Nat) (h : mj_H) (k w : Nat) : Prop := lo ≤ k ∧ k < hi ∧ h.1 87 0 k = nI w ∧ h.1 88 0 k = nI u
/-- parts of an expression lie apart: each one's own nodes are between lo and hi; .old is a bracket -/
def tER (u : Nat) (h : mj_H) : Tm → Nat → Nat → Nat → Prop
  | .int v, lo, hi, k => tM u lo hi h k 1 ∧ h.1 89 0 k = v
  | .arg s, lo, hi, k => tM u lo hi h k 2 ∧ h.1 89 0 k = nI (tw s) ∧ s < 202
  | .elem (.arg s) e, lo, hi, k => tM u lo hi h k 3 ∧ h.1 89 0 k = nI (tw s) ∧ s < 202 ∧ ∃ l, h.1 90 0 k = nI l ∧ tER u h e lo k l
  | .length e, lo, hi, k => tM u lo hi h k 5 ∧ ∃ l, h.1 89 0 k = nI l ∧ tER u h e lo k l
  | .sum e, lo, hi, k => tM u lo hi h k 6 ∧ ∃ l, h.1 89 0 k = nI l ∧ tER u h e lo k l
  | .old e, lo, hi, k => tM u lo hi h k 7 ∧ ∃ l, h.1 89 0 k = nI l ∧ tER u h e lo k l
  | .add (.index o) (.sub x y), lo, hi, k => ∃ m, tM u lo hi h k 4 ∧ h.1 89 0 k = nI (opT o) ∧ lo ≤ m ∧ m ≤ k ∧ ∃ l r, h.1 90 0 k = nI l ∧ h.1 91 0 k = nI r ∧ tER u h x lo m l ∧ tER u h y m k r
  | _, _, _, _ => False
abbrev tE (u lo hi : Nat) (h : mj_H) (e : Tm) (k : Nat) : Prop := tER u h e lo hi k
/-- what lies between lo and hi is alike -/
def tK (lo hi : Nat) (h h' : mj_H) : Prop := ∀ g i j, 87 ≤ g ∧ (g ≤ 96 ∨ g = 100) ∧ lo ≤ j ∧ j < hi → h'.1 g i j = h.1 g i j
theorem tK.rf (lo hi : Nat) (h : mj_H) : tK lo hi h h := sorry
theorem tK.tr {lo hi : Nat} {h h1 h2 : mj_H} (a : tK lo hi h h1) (b : tK lo hi h1 h2) : tK lo hi h h2 := sorry
theorem tK.le {lo hi lo' hi' : Nat} {h h' : mj_H} (a : tK lo hi h h') (hl : lo ≤ lo') (hh : hi' ≤ hi) : tK lo' hi' h h' := sorry
theorem tN.k {nn lo : Nat} {h h' : mj_H} (a : tN nn h h') : tK lo nn h h' := sorry
theorem tK_I {lo hi g i j : Nat} {v : Int32} (h : mj_H) (c : ¬ (87 ≤ g ∧ (g ≤ 96 ∨ g = 100) ∧ lo ≤ j ∧ j < hi)) : tK lo hi h (mj_sI h g i j v) := sorry
theorem tM.mv {u lo hi lo' hi' k w : Nat} {h h' : mj_H} (a : tM u lo hi h k w) (hl : lo' ≤ lo) (hh : hi ≤ hi') (f : tK lo hi h h') : tM u lo' hi' h' k w := sorry
theorem tE.mv {u lo hi lo' hi' : Nat} {h h' : mj_H} (hl : lo' ≤ lo) (hh : hi ≤ hi') (f : tK lo hi h h') : ∀ (e : Tm) (k : Nat), tE u lo hi h e k → tE u lo' hi' h' e k := sorry
theorem tE.rg {u lo hi k : Nat} {h : mj_H} {e : Tm} (a : tE u lo hi h e k) : lo ≤ k ∧ k < hi := sorry
theorem t_look {t : Nat → Nat} {n d br nn u i : Nat} {sy : List Sym} {vis : List Nat} {ts : List Tok} {L : List PL} {h : mj_H} (a : TX t n h sy vis br nn u i ts L) (h1 : (hd ts).1 = 1) : mj_R mg (d + 1) mq_232 (0, [(0, vR 15 0)], [], h) = match fnd sy vis (hd ts).2.2.2 with | none => some (.inl (some (vI (-1)), tfl h (3, some (u, (hd ts).2.1)))) | some s => some (.inl (some (vI (nI (tw s))), h)) := sorry
