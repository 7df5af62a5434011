/-! the twin's reader: what all of it leaves alone; statements -/
def tV (h h' : mj_H) : Prop := (∀ g i j, ¬ ((g = 15 ∧ (9 ≤ j ∧ j ≤ 16 ∨ 19 ≤ j ∧ j ≤ 57)) ∨ (78 ≤ g ∧ g ≤ 110)) → h'.1 g i j = h.1 g i j) ∧ (∀ g i j, ¬ ((g = 15 ∧ j = 14) ∨ g = 78) → h'.2.1 g i j = h.2.1 g i j) ∧ h'.2.2 = h.2.2
def tVw (h h' : mj_H) : Prop := (∀ g i j, ¬ ((g = 15 ∧ 9 ≤ j ∧ j ≤ 57) ∨ (78 ≤ g ∧ g ≤ 110)) → h'.1 g i j = h.1 g i j) ∧ (∀ g i j, ¬ ((g = 15 ∧ j = 14) ∨ g = 78) → h'.2.1 g i j = h.2.1 g i j) ∧ h'.2.2 = h.2.2
theorem tV.rf (h : mj_H) : tV h h := sorry
theorem tV.tr {h h1 h2 : mj_H} (a : tV h h1) (b : tV h1 h2) : tV h h2 := sorry
theorem tV.w {h h' : mj_H} (a : tV h h') : tVw h h' := sorry
theorem tVw.tr {h h1 h2 : mj_H} (a : tVw h h1) (b : tVw h1 h2) : tVw h h2 := sorry
theorem tNw.v {nn : Nat} {h h' : mj_H} (a : tNw nn h h') : tVw h h' := sorry
theorem tN.v {nn : Nat} {h h' : mj_H} (a : tN nn h h') : tV h h' := sorry
theorem tV_I (h : mj_H) (g i j : Nat) (v : Int32) (c : (g = 15 ∧ (9 ≤ j ∧ j ≤ 16 ∨ 19 ≤ j ∧ j ≤ 57)) ∨ (78 ≤ g ∧ g ≤ 110)) : tV h (mj_sI h g i j v) := sorry
/-- a fault has been told: all that is left of the state -/
def tX (h h' : mj_H) (f : Flt) : Prop := f.1 ≠ 0 ∧ f.1 < 10 ∧ h'.1 15 0 16 = nI f.1 ∧ h'.1 15 0 17 = (flI f).1 ∧ h'.1 15 0 18 = (flI f).2 ∧ tVw h h'
theorem tX.bad {h h' : mj_H} {f : Flt} (a : tX h h' f) : h'.1 15 0 16 ≠ 0 := sorry
theorem tX.tr {h h1 h2 : mj_H} {f : Flt} (b : tX h1 h2 f) (a : tV h h1) : tX h h2 f := sorry
theorem tX.st {g i j : Nat} {v : Int32} {h h' : mj_H} {f : Flt} (a : tX h h' f) (c : (g = 15 ∧ 19 ≤ j ∧ j ≤ 57) ∨ (78 ≤ g ∧ g ≤ 110)) : tX h (mj_sI h' g i j v) f := sorry
theorem qB.x {t : Nat → Nat} {n nn B : Nat} {h h' : mj_H} {f : Flt} (a : qB t n nn h h' f B) : tX h h' f := sorry
abbrev tXv (h : mj_H) (f : Flt) (v : Option mj_V) (h' : mj_H) : Prop := (∃ r, v = some (vI r)) ∧ tX h h' f
theorem tKx.e {lo hi k : Nat} {h h9 : mj_H} (a : tKx lo hi k h h9) : tKe lo hi h h9 := sorry
/-- a statement -/
def qS (t : Nat → Nat) (n : Nat) (pa : List (List Nat)) (sy : List Sym) (vis : List Nat) (nn u : Nat) (L : List PL) (bd : Nat) (h : mj_H) (v : Option mj_V) (h' : mj_H) : Rs Tm → Prop
  | .inl f => tXv h (f.1, some (u, f.2)) v h'
  | .inr Q => ∃ k nn', v = some (vI (nI k)) ∧ TY t n h' sy vis nn' L ∧ tN nn h h' ∧ tZ pa nn nn' h' (.div (.index u) Q) k ∧ nn ≤ k ∧ k < nn' ∧ h'.1 94 0 k = 0 ∧ nn' ≤ bd
theorem qS_v {t : Nat → Nat} {n nn u bd : Nat} {pa : List (List Nat)} {sy : List Sym} {vis : List Nat} {L : List PL} {h : mj_H} {X : Rs Tm} (v : Option mj_V) (h' : mj_H) (q : qS t n pa sy vis nn u L bd h v h' X) : ∃ r, v = some (vI r) := sorry
/-- a thing and the node above it -/
theorem nm_two {t : Nat → Nat} {n d u i s nn nn1 w : Nat} {s0 x4 wI : Int32} {y : Tm} {h : mj_H} {sy : List Sym} {vis : List Nat} {ts : List Tok} {L : List PL} (a : TX t n h sy vis 0 nn1 u i ts L) (hn : nn ≤ nn1) (hn2 : nn1 + 2 ≤ 7000) (hs : s < 202) (hw : wI = nI w)
    (ix : (x4 = 0 ∧ y = .arg s ∧ s0 = 2) ∨ ∃ e l, y = .elem (.arg s) e ∧ x4 = nI l ∧ s0 = 3 ∧ tE u nn nn1 h e l) (K : Int32 → mj_H → Option mj_O) (Q : Option mj_V → mj_H → Prop)
    (KG : ∀ h2, TX t n h2 sy vis 0 (nn1 + 2) u i ts L → tN nn1 h h2 → tE u nn (nn1 + 1) h2 y nn1 → tM u nn (nn1 + 2) h2 (nn1 + 1) w → h2.1 89 0 (nn1 + 1) = nI nn1 → h2.1 94 0 (nn1 + 1) = 0 → mP (K (nI (nn1 + 1)) h2) Q) :
    mP (mj_xi (mj_R mg d mq_231 (0, [(0, vR 15 0), (1, vI s0), (2, vI (nI (tw s))), (3, vI x4), (4, vI 0), (5, vI 0)], [], h)) (fun r1 h1 => mj_xi (mj_R mg d mq_231 (0, [(0, vR 15 0), (1, vI wI), (2, vI r1), (3, vI 0), (4, vI 0), (5, vI 0)], [], h1)) K)) Q := sorry
/-- what is sent, taken or assigned; the line's end -/
theorem nm_fin {t : Nat → Nat} {n D u i nn nn1 w bd B : Nat} {y : Tm} {F : Tm → Tm} {X : Rs (Tm × List Tok)} {h h2 h3 : mj_H} {v : Option mj_V} {pa : List (List Nat)} {sy : List Sym} {vis : List Nat} {L : List PL}
    (hQ : ∀ (lo hi m : Nat) (g : mj_H) (f c k a b : Nat) (e : Tm), tD u lo hi g k w f c → lo ≤ m ∧ m ≤ hi → g.1 89 0 k = nI a → g.1 90 0 k = nI b → tE u lo m g y a → tE u m hi g e b → tQ pa lo hi g (.div (.index u) (F e)) 0 f c (nI k))
    (g2 : tN nn h h2) (e1 : tE u nn (nn1 + 1) h2 y nn1) (e2 : tM u nn (nn1 + 2) h2 (nn1 + 1) w) (e3 : h2.1 89 0 (nn1 + 1) = nI nn1) (e4 : h2.1 94 0 (nn1 + 1) = 0) (hn : nn ≤ nn1) (hn2 : nn1 + 2 ≤ 7000) (hbd : bd ≤ 3400)
    (q : qE t n sy vis 0 (nn1 + 2) u i L bd B h2 v h3 X) :
    ∃ r, v = some (vI r) ∧ mP (if mj_in (nI (nn1 + 1)) 7000 then mj_xv (mj_R mg (D + 1) mq_223 (0, [(0, vR 15 0)], [], mj_sI h3 90 0 (nI (nn1 + 1)).toNatClampNeg r)) (fun h5 => some (.inl (some (vI (nI (nn1 + 1))), h5))) else none) (fun v h' => qS t n pa sy vis nn u L bd h v h' (bnd X fun e => bnd (endS e.2) fun _ => .inr (F e.1))) := sorry
