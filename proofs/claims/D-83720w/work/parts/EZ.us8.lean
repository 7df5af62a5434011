/-! the component's uses: processes -/
theorem seeS_in {vis : List Nat} {f s : Nat} : ∀ {m : Nat}, s ∈ seeS vis f m → s ∈ vis ∨ ∃ k, k < m ∧ s = f + k := sorry
def vLt (sy : List Sym) (vis : List Nat) (lo : Nat) : Prop := ∀ s ∈ vis, srO sy s = 11 → s < lo
theorem vLt.le {sy : List Sym} {vis : List Nat} {lo lo' : Nat} (a : vLt sy vis lo) (h : lo ≤ lo') : vLt sy vis lo' := sorry
theorem vLt.cons {sy : List Sym} {vis : List Nat} {lo s : Nat} (a : vLt sy vis lo) (h : lo ≤ s) : vLt sy (s :: vis) (s + 1) := sorry
theorem dcl_sr {sy : List Sym} {s : Nat} (h : dcl sy s) : srO sy s = 2 ∨ srO sy s = 7 ∨ srO sy s = 5 ∨ srO sy s = 9 := sorry
theorem vLt.see {sy : List Sym} {vis : List Nat} {lo c : Nat} (a : vLt sy vis lo) (h : ∀ k, k < c → dcl sy (lo + k)) : vLt sy (seeS vis lo c) (lo + c) := sorry
theorem vOK.cons {sy : List Sym} {lk : List (Nat × Nat)} {vis : List Nat} {s : Nat} (a : vOK sy lk vis) (h : s < sy.length) (h1 : srO sy s ≠ 1) : vOK sy lk (s :: vis) := sorry
theorem vOK.see {sy : List Sym} {lk : List (Nat × Nat)} {vis : List Nat} {s c : Nat} (a : vOK sy lk vis) (h : s + c ≤ sy.length) (hd : ∀ k, k < c → dcl sy (s + k)) : vOK sy lk (seeS vis s c) := sorry
theorem cK.mvV {sy : List Sym} {vis : List Nat} {r : Nat → Int32} {h h' : mj_H} {a b : Nat} (c : cK sy vis r h) (f : gV a b h h') (hl : vLt sy vis a) : cK sy vis r h' := sorry
theorem cK.cons {sy : List Sym} {vis : List Nat} {r : Nat → Int32} {h : mj_H} {s : Nat} (c : cK sy vis r h) (h1 : srO sy s ≠ 11) : cK sy (s :: vis) r h := sorry
theorem cK.see {sy : List Sym} {vis : List Nat} {r : Nat → Int32} {h : mj_H} {s m : Nat} (c : cK sy vis r h) (hd : ∀ k, k < m → dcl sy (s + k)) : cK sy (seeS vis s m) r h := sorry
theorem cK.up {sy : List Sym} {vis : List Nat} {r : Nat → Int32} {h : mj_H} {s : Nat} {v : Int32} (c : cK sy vis r h) : cK sy (s :: vis) (upE r s v) (mj_sI h 53 0 s v) := sorry
/-- lines that are told: these, in some order -/
def lnR (h h' : mj_H) (L : List Nat) : Prop := ∃ O, (∀ u, u ∈ O ↔ u ∈ L) ∧ h'.1 8 0 7 = mnL (h.1 8 0 7) O
theorem lnR.of {h h' : mj_H} {L : List Nat} (e : h'.1 8 0 7 = mnL (h.1 8 0 7) L) : lnR h h' L := sorry
theorem lnR.nil {h h' : mj_H} (e : h'.1 8 0 7 = h.1 8 0 7) : lnR h h' [] := sorry
theorem lnR.tr {h h1 h2 : mj_H} {A B : List Nat} (a : lnR h h1 A) (b : lnR h1 h2 B) : lnR h h2 (A ++ B) := sorry
theorem lnR.cg {h h' : mj_H} {A B : List Nat} (a : lnR h h' A) (e : ∀ u, u ∈ A ↔ u ∈ B) : lnR h h' B := sorry
theorem ag_or (a b : Bool) (u v : Nat) : v ∈ agB (a || b) u ↔ v ∈ agB a u ∨ v ∈ agB b u := sorry
section
variable (sy : List Sym) (pa : List (List Nat)) (pb : Nat → Nat) (lk : List (Nat × Nat)) (w : Option Nat)
abbrev EVc := evP (kpC sy) true sy pb pa
abbrev YPc := yP (kpC sy) true sy pb pa
abbrev OFc := offP (kpC sy) true false sy pb pa lk w
def uP0 (A : Tm) (l : Nat) (vis : List Nat) (slo shi : Nat) : Prop := ∀ (r : Nat → Int32) (h : mj_H) (lo hi : Nat) (x : Int32) (D : Nat) (pre E : List Ev), rQ lo hi h A 0 x → hi ≤ 3100 → uK sy pa pb lk w h → cK sy vis r h → uS pre E h → pre.length + nk E + YPc sy pa pb A 0 r ≤ 20000 → 3 * l + (shi - slo) + 100 ≤ D →
  mP (mj_R mg D mq_121 (0, [(0, vR 8 0), (1, vI (nI pre.length)), (2, vI x)], [], h)) (fun v h' => v = none ∧ gV slo shi h h' ∧ uS pre (E ++ EVc sy pa pb A 0 r) h' ∧ lnR h h' (OFc sy pa pb lk w A 0 r))
def uP1 (ps : Tm) (l : Nat) (vis : List Nat) (slo shi : Nat) : Prop := ∀ (r : Nat → Int32) (h : mj_H) (lo hi n : Nat) (x : Int32) (D : Nat) (pre E : List Ev), rQ lo hi h ps 1 x → hi ≤ 3100 → uK sy pa pb lk w h → cK sy vis r h → uS pre E h → pre.length + nk E + YPc sy pa pb ps 1 r ≤ 20000 → 3 * l + (shi - slo) + 100 ≤ D →
  mP (mj_R mg (D + 1) mq_121 (255, [(4, vI x), (0, vR 8 0), (1, vI (nI pre.length)), (2, vI (nI n))], [], h)) (fun v h' => v = none ∧ gV slo shi h h' ∧ uS pre (E ++ EVc sy pa pb ps 1 r) h' ∧ lnR h h' (OFc sy pa pb lk w ps 1 r))
def uPP (ps : Tm) (l : Nat) (vis : List Nat) (slo shi : Nat) : Prop := ∀ (r : Nat → Int32) (h : mj_H) (lo hi n u : Nat) (x : Int32) (D : Nat) (pre E A : List Ev), rQ lo hi h ps 1 x → hi ≤ 3100 → uK sy pa pb lk w h → cK sy vis r h → (∃ S T, UR h (pre ++ S ++ T) ∧ seg S E ∧ seg T A) → pre.length + nk E + nk A + YPc sy pa pb ps 1 r ≤ 20000 → n < 3100 → h.1 28 0 n = nI u → 3 * l + (shi - slo) + 100 ≤ D →
  mP (mj_R mg (D + 1) mq_121 (348, [(5, vI x), (4, vI (nI (pre.length + nk E))), (0, vR 8 0), (1, vI (nI pre.length)), (2, vI (nI n))], [], h)) (fun v h' => v = none ∧ gV slo shi h h' ∧ uS pre (E ++ (A ++ EVc sy pa pb ps 1 r)) h' ∧ lnR h h' (OFc sy pa pb lk w ps 1 r ++ agB (clB (fun _ => true) A (brs (kpC sy) true sy pb pa ps r)) u))
def uPG (md : Nat) (gs : Tm) (l : Nat) (vis : List Nat) (slo shi : Nat) : Prop := ∀ (r : Nat → Int32) (h : mj_H) (lo hi n : Nat) (x : Int32) (D : Nat) (pre E : List Ev), rQ lo hi h gs md x → hi ≤ 3100 → uK sy pa pb lk w h → cK sy vis r h → uS pre E h → pre.length + nk E + YPc sy pa pb gs md r ≤ 20000 → n < 3100 → h.2.2 22 0 n = (if md = 2 then 12 else 14) → 3 * l + (shi - slo) + 100 ≤ D →
  mP (mj_R mg (D + 1) mq_122 (10, [(3, vI x), (0, vR 8 0), (1, vI (nI pre.length)), (2, vI (nI n))], [], h)) (fun v h' => v = none ∧ gV slo shi h h' ∧ uS pre (E ++ EVc sy pa pb gs md r) h' ∧ lnR h h' (OFc sy pa pb lk w gs md r))
end
theorem wof_V {sy : List Sym} {lk : List (Nat × Nat)} {w : Option Nat} {vis : List Nat} {u m : Nat} {t : Tm} (h : wfV sy vis t) : wof sy lk w u (nmT t) m = [] := sorry
theorem uS.sp {pre E : List Ev} {h : mj_H} (a : uS pre E h) : ∃ S, UR h (pre ++ S) ∧ seg S E ∧ (pre ++ S).length = pre.length + nk E := sorry
theorem nk_0 : nk [] = 0 := sorry
theorem nk_ap {pre E F : List Ev} {y n : Nat} (h : pre.length + nk E + y ≤ n) (hy : nk F ≤ y) : pre.length + nk (E ++ F) ≤ n := sorry
theorem clB_snoc {g : Nat → Bool} : ∀ (L : List (List Ev)) (A E : List Ev), clB g A (L ++ [E]) = (clB g A L || cls g E (A ++ L.flatten)) := sorry
theorem catN_fl {f : Nat → List Ev} : ∀ m, (catN (fun k => [f k]) m).flatten = catN f m := sorry
theorem mkF_0 (z : Nat) : mkF false z = fun _ => true := sorry
theorem u_proc {sy : List Sym} {pa : List (List Nat)} {pb : Nat → Nat} {lk : List (Nat × Nat)} {pr : Option Nat} : ∀ (A : Tm) (m l : Nat) (vis : List Nat) (slo shi : Nat), wfQ sy pa A m l vis slo shi → shi ≤ sy.length → sy.length ≤ 200 → l ≤ 17 → vOK sy lk vis → vLt sy vis slo → (m = 0 → uP0 sy pa pb lk pr A l vis slo shi) ∧ (m = 1 → uP1 sy pa pb lk pr A l vis slo shi ∧ uPP sy pa pb lk pr A l vis slo shi) ∧ (m = 2 → uPG sy pa pb lk pr 2 A l vis slo shi) ∧ (m = 3 → uPG sy pa pb lk pr 3 A l vis slo shi) := sorry
