/-! the twin's reader: calls -/
def tKe (lo hi : Nat) (h h' : mj_H) : Prop := ∀ g i j, 87 ≤ g ∧ g ≤ 92 ∧ lo ≤ j ∧ j < hi → h'.1 g i j = h.1 g i j
theorem tKe_I {lo hi g i j : Nat} {v : Int32} (h : mj_H) (c : ¬ (87 ≤ g ∧ g ≤ 92 ∧ lo ≤ j ∧ j < hi)) : tKe lo hi h (mj_sI h g i j v) := sorry
theorem tM.mvE {u lo hi lo' hi' k w : Nat} {h h' : mj_H} (a : tM u lo hi h k w) (hl : lo' ≤ lo) (hh : hi ≤ hi') (f : tKe lo hi h h') : tM u lo' hi' h' k w := sorry
theorem tKe.le {lo hi lo' hi' : Nat} {h h' : mj_H} (a : tKe lo hi h h') (hl : lo ≤ lo') (hh : hi' ≤ hi) : tKe lo' hi' h h' := sorry
theorem tE.mvE {u lo hi lo' hi' : Nat} {h h' : mj_H} (hl : lo' ≤ lo) (hh : hi ≤ hi') (f : tKe lo hi h h') : ∀ (e : Tm) (k : Nat), tE u lo hi h e k → tE u lo' hi' h' e k := sorry
/-- an argument in a row, with its parameter -/
def nAr (u : Nat) : mem := fun h lo hi e k => match e with
  | .add (.index q) a => ∃ j, tM u lo hi h k 7 ∧ h.1 89 0 k = nI j ∧ tE u lo hi h a j ∧ h.1 90 0 k = nI (tw q)
  | _ => False
theorem nAr_mv (u : Nat) : mvM (nAr u) := sorry
theorem nAr_z {u lo hi k q j : Nat} {h : mj_H} {a : Tm} (x1 : tM u lo hi h k 7) (x2 : h.1 89 0 k = nI j) (x3 : tE u lo hi h a j) (x4 : h.1 90 0 k = nI (tw q)) : zM (nAr u) h lo hi (.add (.index q) a) k := sorry
def encA (qs : List Nat) (as : List Tm) : List Tm := List.zipWith (fun q a => .add (.index q) a) qs as
theorem row_As {u : Nat} {h : mj_H} : ∀ {qs : List Nat} {as : List Tm} {lo : Nat} {x : Int32} {l hi : Nat}, rowM (nAr u) h lo (encA qs as) x l hi → qs.length = as.length → ∀ lo', lo' ≤ lo → tAs u lo' hi h qs (tmL as) x := sorry
/-- ahead of a line -/
def TY (t : Nat → Nat) (n : Nat) (h : mj_H) (sy : List Sym) (vis : List Nat) (nn : Nat) (L : List PL) : Prop := TQ t n h L ∧ h.1 15 0 16 = 0 ∧ h.1 15 0 31 = nI nn ∧ TSY h sy ∧ TVS h sy vis
theorem TX.ty {t : Nat → Nat} {n br nn u i : Nat} {h h' : mj_H} {sy : List Sym} {vis : List Nat} {ts : List Tok} {L LL : List PL} (a : TX t n h sy vis br nn u i ts L) (f : tG h h') (q : TQ t n h' LL) : TY t n h' sy vis nn LL := sorry
def TPA (h : mj_H) (sy : List Sym) (vis : List Nat) (pa : List (List Nat)) : Prop := pa.length ≤ 24 ∧ (∀ p, p < pa.length → ∃ fr cnt, pa.getD p [] = List.range' fr cnt ∧ h.1 101 0 p = nI (fr + 2) ∧ h.1 102 0 p = nI cnt ∧ cnt ≤ 6 ∧ fr + cnt ≤ sy.length ∧ ∀ k, k < cnt → (srO sy (fr + k) = 3 ∨ srO sy (fr + k) = 4 ∨ srO sy (fr + k) = 6 ∨ srO sy (fr + k) = 8)) ∧ ∀ s ∈ vis, srO sy s = 0 → szO sy s < pa.length
theorem TPA.mv {nn : Nat} {h h' : mj_H} {sy : List Sym} {vis : List Nat} {pa : List (List Nat)} (a : TPA h sy vis pa) (f : tN nn h h') : TPA h' sy vis pa := sorry
def qC (t : Nat → Nat) (n : Nat) (sy : List Sym) (vis : List Nat) (ps : List Nat) (u p c : Nat) (L : List PL) (bd : Nat) (h : mj_H) (v : Option mj_V) (h' : mj_H) : Rs (List Tm) → Prop
  | .inl f => (∃ r, v = some (vI r)) ∧ qB t n c h h' (f.1, some (u, f.2)) 3530
  | .inr as => ∃ nn', v = some (vI (nI c)) ∧ TY t n h' sy vis nn' L ∧ tN c h h' ∧ tM u c nn' h' c 25 ∧ (h'.1 89 0 c = nI p ∧ h'.1 94 0 c = 0) ∧ tAs u (c + 1) nn' h' ps (tmL as) (h'.1 93 0 c) ∧ nn' ≤ bd
theorem cl233B {t : Nat → Nat} {n D c B : Nat} {x1 x3 x4 x5 : Int32} {h h1 : mj_H} {f : Flt} (b : qB t n c h h1 f B) : mP (mj_R mg (D + 2) mq_258 (233, [(5, vI x5), (4, vI x4), (3, vI x3), (2, vI (nI c)), (0, vR 15 0), (1, vI x1)], [], h1)) (fun v h' => (∃ r, v = some (vI r)) ∧ qB t n c h h' f B) := sorry
theorem cl88B {t : Nat → Nat} {n D c B : Nat} {x1 x3 x4 x5 : Int32} {h h1 : mj_H} {f : Flt} (b : qB t n c h h1 f B) : mP (mj_R mg (D + 2) mq_258 (88, [(5, vI x5), (4, vI x4), (3, vI x3), (2, vI (nI c)), (0, vR 15 0), (1, vI x1)], [], h1)) (fun v h' => (∃ r, v = some (vI r)) ∧ qB t n c h h' f B) := sorry
/-- a call, as many arguments as are there -/
def cJ (t : Nat → Nat) (n : Nat) (sy : List Sym) (vis : List Nat) (u i c p : Nat) (L : List PL) (h h1 : mj_H) (nn1 : Nat) (ts : List Tok) (qs : List Nat) (as : List Tm) (x4 : Int32) : Prop :=
  TX t n h1 sy vis 1 nn1 u i ts L ∧ tN c h h1 ∧ tM u c nn1 h1 c 25 ∧ h1.1 89 0 c = nI p ∧ h1.1 94 0 c = 0 ∧ rowJ (nAr u) c nn1 h1 (encA qs as) x4 ∧ qs.length = as.length
theorem cl_fin {t : Nat → Nat} {n D u i c p nn1 bd : Nat} {x1 x3 x4 x5 : Int32} {h h1 : mj_H} {sy : List Sym} {vis : List Nat} {ts : List Tok} {L : List PL} {qs : List Nat} {as : List Tm} (I : cJ t n sy vis u i c p L h h1 nn1 ts qs as x4) (hb : nn1 + ts.length ≤ bd + 1) (hbd : bd ≤ 3400) :
    mP (mj_R mg (D + 5) mq_258 (233, [(5, vI x5), (4, vI x4), (3, vI x3), (2, vI (nI c)), (0, vR 15 0), (1, vI x1)], [], h1)) (fun v h' => qC t n sy vis qs u p c L bd h v h' (bnd (fnS ts) fun _ => .inr as)) := sorry
