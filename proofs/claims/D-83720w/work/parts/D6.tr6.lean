theorem tK.sI {lo hi g i j : Nat} {v : Int32} {h h' : mj_H} (f : tK lo hi h h') : tK lo hi (mj_sI h g i j v) (mj_sI h' g i j v) := sorry
/-! the twin's rows -/
def mvM (N : mem) : Prop := ∀ lo hi lo' hi' h h' a k, lo' ≤ lo → hi ≤ hi' → tK lo hi h h' → N h lo hi a k → N h' lo' hi' a k
def zM (N : mem) (h : mj_H) (lo hi : Nat) (a : Tm) (k : Nat) : Prop := N h lo hi a k ∧ ∀ v, N (mj_sI h 94 0 k v) lo hi a k
theorem zM.mv {N : mem} (hN : mvM N) {lo hi lo' hi' k : Nat} {h h' : mj_H} {a : Tm} (x : zM N h lo hi a k) (hl : lo' ≤ lo) (hh : hi ≤ hi') (f : tK lo hi h h') : zM N h' lo' hi' a k := sorry
theorem zM.s94 {N : mem} {lo hi k : Nat} {w : Int32} {h : mj_H} {a : Tm} (x : zM N h lo hi a k) : zM N (mj_sI h 94 0 k w) lo hi a k := sorry
/-- a row from x on, the last member l, all between lo and hi -/
def rowM (N : mem) (h : mj_H) : Nat → List Tm → Int32 → Nat → Nat → Prop
  | _, [], _, _, _ => False
  | lo, [a], x, l, hi => x = nI l ∧ lo ≤ l ∧ l < hi ∧ zM N h lo hi a l ∧ h.1 94 0 l = 0
  | lo, a :: b :: r, x, l, hi => ∃ k m, x = nI k ∧ lo ≤ k ∧ k < m ∧ zM N h lo m a k ∧ rowM N h m (b :: r) (h.1 94 0 k) l hi
theorem rowM_rng {N : mem} {h : mj_H} : ∀ {as : List Tm} {lo : Nat} {x : Int32} {l hi : Nat}, rowM N h lo as x l hi → lo ≤ l ∧ l < hi := sorry
theorem rowM_mv {N : mem} (hN : mvM N) {h h' : mj_H} : ∀ {as : List Tm} {lo : Nat} {x : Int32} {l hi : Nat}, rowM N h lo as x l hi → tK lo hi h h' → rowM N h' lo as x l hi := sorry
/-- one more behind the last -/
theorem rowM_app {N : mem} (hN : mvM N) {h : mj_H} {b : Tm} {k2 hi2 : Nat} : ∀ {as : List Tm} {lo : Nat} {x : Int32} {l hi : Nat}, rowM N h lo as x l hi → zM N h hi hi2 b k2 → hi ≤ k2 → k2 < hi2 → h.1 94 0 k2 = 0 → rowM N (mj_sI h 94 0 l (nI k2)) lo (as ++ [b]) x k2 hi2 := sorry
def rowJ (N : mem) (c np : Nat) (h : mj_H) (ps : List Tm) (x : Int32) : Prop := (ps = [] ∧ x = 0 ∧ h.1 93 0 c = 0) ∨ ∃ l, x = nI l ∧ rowM N h (c + 1) ps (h.1 93 0 c) l np
theorem rowJ.mv {N : mem} (hN : mvM N) {c np : Nat} {h h' : mj_H} {ps : List Tm} {x : Int32} (a : rowJ N c np h ps x) (f : tK c np h h') (hc : c < np) : rowJ N c np h' ps x := sorry
theorem rowJ.x {N : mem} {c np : Nat} {h : mj_H} {ps : List Tm} {x : Int32} (a : rowJ N c np h ps x) (hn : np ≤ 7000) : x = 0 ∨ ∃ l, l < 7000 ∧ x = nI l := sorry
theorem rowJ.last {N : mem} {c np : Nat} {h : mj_H} {ps : List Tm} {x : Int32} (a : rowJ N c np h ps x) (hn : np ≤ 7000) : x = 0 ↔ ps = [] := sorry
/-- one more member, at k2: what is written for it -/
theorem rowJ_step {N : mem} (hN : mvM N) {c np np2 k2 : Nat} {h : mj_H} {ps : List Tm} {b : Tm} {x : Int32} (a : rowJ N c np h ps x) (hb : zM N h np np2 b k2) (hc : c < np) (h1 : np ≤ k2) (h2 : k2 < np2) (h3 : h.1 94 0 k2 = 0) :
    (x = 0 ∧ rowJ N c np2 (mj_sI h 93 0 c (nI k2)) (ps ++ [b]) (nI k2)) ∨ ∃ l, x = nI l ∧ c < l ∧ l < np ∧ rowJ N c np2 (mj_sI h 94 0 l (nI k2)) (ps ++ [b]) (nI k2) := sorry
/-! arguments -/
def arS (sy : List Sym) (vis : List Nat) (q : Nat) (ts : List Tok) : Rs (Tm × List Tok) := bnd (chkS (!(isS 41 (hd ts))) 4 (hd ts).2.1) fun _ => argS sy vis q ts
theorem ar_fin {t : Nat → Nat} {n D nn nn1 u i j q bd : Nat} {x2 : Int32} {h h1 : mj_H} {sy : List Sym} {vis : List Nat} {ts : List Tok} {L : List PL} {x : Tm} (a : TX t n h1 sy vis 1 nn1 u i ts L) (g : tN nn h h1) (hr : tE u nn nn1 h1 x j) (hb : nn1 + ts.length ≤ bd) (hbd : bd ≤ 3450) (h0 : nn ≤ nn1) : mP (mj_R mg (D + 1) mq_259 (172, [(3, vI (nI j)), (2, vI x2), (0, vR 15 0), (1, vI (nI (tw q)))], [], h1)) (fun v h' => qA t n sy vis nn u i q L bd h v h' (.inr (x, ts))) := sorry
theorem ar_finB {t : Nat → Nat} {n D nn B : Nat} {x1 x2 x3 : Int32} {h h1 : mj_H} {f : Flt} (b : qB t n nn h h1 f B) (hB : B < 3519) : mP (mj_R mg (D + 1) mq_259 (172, [(3, vI x3), (2, vI x2), (0, vR 15 0), (1, vI x1)], [], h1)) (fun v h' => (∃ r, v = some (vI r)) ∧ qB t n nn h h' f 3520) := sorry
theorem t_arg {t : Nat → Nat} {n D nn u i q : Nat} {h : mj_H} {sy : List Sym} {vis : List Nat} {ts : List Tok} {L : List PL} (a : TX t n h sy vis 1 nn u i ts L) (hb : nn + ts.length ≤ 3400) (hq : q < sy.length) (hqs : srO sy q = 3 ∨ srO sy q = 4 ∨ srO sy q = 6 ∨ srO sy q = 8) (hD : 60 ≤ D) :
    mP (mj_R mg D mq_259 (0, [(0, vR 15 0), (1, vI (nI (tw q)))], [], h)) (fun v h' => qA t n sy vis nn u i q L (nn + ts.length) h v h' (arS sy vis q ts)) := sorry
