/-! uses: what a process does -/
def plC (sy : List Sym) : Tm → Bool
  | .int _ => true
  | .arg s => srO sy s == 11
  | .old e => plC sy e
  | _ => false
def nuE : Tm → Bool
  | .int _ => true
  | .old e => nuE e
  | _ => false
def fixE (sy : List Sym) : Tm → Bool
  | .old e => fixE sy e
  | .add (.index o) (.sub x y) => (o == 43 || o == 45) && plC sy x && nuE y
  | .int _ => true
  | .arg s => srO sy s == 11
  | _ => false
def cstE (r : Nat → Int32) : Tm → Int32
  | .int v => v
  | .arg s => r s
  | .old e => cstE r e
  | .add (.index o) (.sub x y) => if o = 43 then cstE r x + cstE r y else cstE r x - cstE r y
  | _ => 0
def kyT (sy : List Sym) (r : Nat → Int32) : Tm → Ky
  | .arg s => (s, arrS (srO sy s), 0)
  | .elem (.arg s) e => (s, !fixE sy e, if fixE sy e then cstE r e else 0)
  | _ => (0, false, 0)
def catN {α : Type} (f : Nat → List α) : Nat → List α
  | 0 => []
  | k + 1 => catN f k ++ f k
def upE (r : Nat → Int32) (s : Nat) (v : Int32) : Nat → Int32 := fun t => if t = s then v else r t
section
variable (kp : Nat → Bool) (fl : Bool) (sy : List Sym) (pb : Nat → Nat) (pa : List (List Nat))
def evE (r : Nat → Int32) : Tm → List Ev
  | .arg s => if kp s then [((s, arrS (srO sy s), 0), 1)] else []
  | .elem (.arg s) e => evE r e ++ [((s, !fixE sy e, if fixE sy e then cstE r e else 0), 1)]
  | .length e => evE r e
  | .sum e => evE r e
  | .old e => evE r e
  | .add (.index _) (.sub x y) => evE r x ++ evE r y
  | _ => []
def evT (r : Nat → Int32) (m : Nat) : Tm → List Ev
  | .arg s => if kp s then [((s, arrS (srO sy s), 0), m)] else []
  | .elem (.arg s) e => evE kp sy r e ++ [((s, !fixE sy e, if fixE sy e then cstE r e else 0), m)]
  | _ => []
def evA (r : Nat → Int32) : List Nat → Tm → List Ev
  | q :: qs, .elem a as => (if srO sy q = 3 then evE kp sy r a else evT kp sy r (pb q) a) ++ evA r qs as
  | _, _ => []
def evP : Tm → Nat → (Nat → Int32) → List Ev
  | .div (.index _) (.rem (.elem (.index s) (.index c)) p), 0, r => if fl then flN (fun t => decide (t < s) || decide (s + c ≤ t)) (evP p 0 r) else evP p 0 r
  | .div (.index _) (.add v e), 0, r => evE kp sy r e ++ evT kp sy r 2 v
  | .div (.index _) (.sub c e), 0, r => evE kp sy r e ++ evT kp sy r 4 c
  | .div (.index _) (.mul c v), 0, r => evT kp sy r 8 c ++ evT kp sy r 2 v
  | .div (.index _) (.elem (.index p) as), 0, r => evA kp sy pb r (pa.getD p []) as
  | .div (.index _) (.length ps), 0, r => evP ps 1 r
  | .div (.index _) (.rem (.arg _) (.elem (.elem e1 e2) p)), 0, r => evE kp sy r e1 ++ evE kp sy r e2 ++ evP p 0 r
  | .div (.index _) (.sum (.elem (.index _) ps)), 0, r => evP ps 1 r
  | .div (.index _) (.old (.elem (.index _) ps)), 0, r => evP ps 1 r
  | .div (.index _) (.rem (.index s) (.elem (.elem (.index b) (.index m)) p)), 0, r => catN (fun k => evP p 0 (upE r s (nI (b + k)))) m
  | .div (.index _) (.rem .null gs), 0, r => evP gs 2 r
  | .div (.index _) (.div e p), 0, r => evE kp sy r e ++ evP p 0 r
  | .div (.index _) (.rem .result gs), 0, r => evP gs 3 r
  | .elem p ps, 1, r => evP p 0 r ++ evP ps 1 r
  | .elem (.elem e p) gs, 2, r => evE kp sy r e ++ evP p 0 r ++ evP gs 2 r
  | .elem (.div (.index _) (.elem e (.elem c (.elem v p)))) gs, 3, r => evE kp sy r e ++ (evT kp sy r 8 c ++ evT kp sy r 2 v) ++ evP p 0 r ++ evP gs 3 r
  | _, _, _ => []
end
/-! offences -/
def wok (sy : List Sym) (lk : List (Nat × Nat)) (w : Option Nat) (s m : Nat) : Bool := match w with
  | none => false
  | some p => if s = 200 then p == 0 && m == 4 else if s = 201 then p == 0 && m == 8 else (m &&& 4 == 0 || (lk.getD (szO sy s) (0, 0)).1 == p) && (m &&& 8 == 0 || (lk.getD (szO sy s) (0, 0)).2 == p)
def wof (sy : List Sym) (lk : List (Nat × Nat)) (w : Option Nat) (u s m : Nat) : List Nat := if srO sy s = 1 ∧ m ≠ 0 ∧ wok sy lk w s m = false then [u] else []
def gvA (sy : List Sym) (pb : Nat → Nat) (r : Nat → Int32) : List Nat → Tm → List (Ky × Nat × Bool)
  | q :: qs, .elem a as => (if srO sy q = 3 then [] else [(kyT sy r a, pb q, srO sy q == 8)]) ++ gvA sy pb r qs as
  | _, _ => []
def ao1 (x y : Ky × Nat × Bool) : Bool := mtK x.1 y.1 && (y.2.2 || wrt x.2.1 y.2.1)
def prs : List (Ky × Nat × Bool) → Bool
  | [] => false
  | x :: r => r.any (ao1 x) || prs r
def wfA_o (sy : List Sym) (pb : Nat → Nat) (lk : List (Nat × Nat)) (w : Option Nat) (u : Nat) : List Nat → Tm → List Nat
  | q :: qs, .elem a as => (if srO sy q = 3 then [] else wof sy lk w u (nmT a) (pb q)) ++ wfA_o sy pb lk w u qs as
  | _, _ => []
def wofC (sy : List Sym) (lk : List (Nat × Nat)) (w : Option Nat) (u : Nat) : Tm → List Nat
  | .null => []
  | c => wof sy lk w u (nmT c) 8
/-- do two of the branches clash? -/
def clB (g : Nat → Bool) : List Ev → List (List Ev) → Bool
  | _, [] => false
  | pre, E :: r => cls g E pre || clB g (pre ++ E) r
section
variable (kp : Nat → Bool) (fl mk : Bool) (sy : List Sym) (pb : Nat → Nat) (pa : List (List Nat)) (lk : List (Nat × Nat)) (w : Option Nat)
def brs : Tm → (Nat → Int32) → List (List Ev)
  | .elem p ps, r => evP kp fl sy pb pa p 0 r :: brs ps r
  | _, _ => []
def mkF (z : Nat) : Nat → Bool := fun s => !mk || decide (s < z) || decide (200 ≤ s)
def offP : Tm → Nat → (Nat → Int32) → List Nat
  | .div (.index _) (.rem (.elem (.index _) (.index _)) p), 0, r => offP p 0 r
  | .div (.index u) (.sub c _), 0, _ => wof sy lk w u (nmT c) 4
  | .div (.index u) (.mul c _), 0, _ => wof sy lk w u (nmT c) 8
  | .div (.index u) (.elem (.index p) as), 0, r => wfA_o sy pb lk w u (pa.getD p []) as ++ (if prs (gvA sy pb r (pa.getD p []) as) then [u] else [])
  | .div (.index _) (.length ps), 0, r => offP ps 1 r
  | .div (.index _) (.rem (.arg _) (.elem (.elem _ _) p)), 0, r => offP p 0 r
  | .div (.index u) (.sum (.elem (.index z) ps)), 0, r => offP ps 1 r ++ (if clB (mkF mk z) [] (brs kp fl sy pb pa ps r) then [u] else [])
  | .div (.index u) (.old (.elem (.index z) ps)), 0, r => offP ps 1 r ++ (if clB (mkF mk z) [] (brs kp fl sy pb pa ps r) then [u] else [])
  | .div (.index u) (.rem (.index s) (.elem (.elem (.index b) (.index m)) p)), 0, r => catN (fun k => offP p 0 (upE r s (nI (b + k)))) m ++ (if clB (mkF mk s) [] (catN (fun k => [evP kp fl sy pb pa p 0 (upE r s (nI (b + k)))]) m) then [u] else [])
  | .div (.index _) (.rem .null gs), 0, r => offP gs 2 r
  | .div (.index _) (.div _ p), 0, r => offP p 0 r
  | .div (.index _) (.rem .result gs), 0, r => offP gs 3 r
  | .elem p ps, 1, r => offP p 0 r ++ offP ps 1 r
  | .elem (.elem _ p) gs, 2, r => offP p 0 r ++ offP gs 2 r
  | .elem (.div (.index u) (.elem _ (.elem c (.elem _ p)))) gs, 3, r => wofC sy lk w u c ++ offP p 0 r ++ offP gs 3 r
  | _, _, _ => []
end
/-- the least line -/
def mnI (l x : Int32) : Int32 := if l = -1 then x else if l ≤ x then l else x
def mnL (l : Int32) (L : List Nat) : Int32 := L.foldl (fun o u => mnI o (nI u)) l
theorem mnL_app (l : Int32) (A B : List Nat) : mnL l (A ++ B) = mnL (mnL l A) B := sorry
/-! how many rows are there at most, beyond those that are -/
def mxN (f : Nat → Nat) : Nat → Nat
  | 0 => 0
  | k + 1 => max (mxN f k) (f k)
theorem mxN_ge {f : Nat → Nat} {m k : Nat} (h : k < m) : f k ≤ mxN f m := sorry
section
variable (kp : Nat → Bool) (fl : Bool) (sy : List Sym) (pb : Nat → Nat) (pa : List (List Nat))
def yP : Tm → Nat → (Nat → Int32) → Nat
  | .div (.index _) (.rem (.elem (.index _) (.index _)) p), 0, r => yP p 0 r
  | .div (.index _) (.length ps), 0, r => yP ps 1 r
  | .div (.index _) (.rem (.arg _) (.elem (.elem e1 e2) p)), 0, r => nk (evE kp sy r e1 ++ evE kp sy r e2) + yP p 0 r
  | .div (.index _) (.sum (.elem (.index _) ps)), 0, r => yP ps 1 r
  | .div (.index _) (.old (.elem (.index _) ps)), 0, r => yP ps 1 r
  | .div (.index _) (.rem (.index s) (.elem (.elem (.index b) (.index m)) p)), 0, r => mxN (fun k => nk (catN (fun k => evP kp fl sy pb pa p 0 (upE r s (nI (b + k)))) k) + yP p 0 (upE r s (nI (b + k)))) m
  | .div (.index _) (.rem .null gs), 0, r => yP gs 2 r
  | .div (.index _) (.div e p), 0, r => nk (evE kp sy r e) + yP p 0 r
  | .div (.index _) (.rem .result gs), 0, r => yP gs 3 r
  | .div (.index u) Q, 0, r => nk (evP kp fl sy pb pa (.div (.index u) Q) 0 r)
  | .elem p ps, 1, r => max (yP p 0 r) (nk (evP kp fl sy pb pa p 0 r) + yP ps 1 r)
  | .elem (.elem e p) gs, 2, r => max (nk (evE kp sy r e) + yP p 0 r) (nk (evE kp sy r e ++ evP kp fl sy pb pa p 0 r) + yP gs 2 r)
  | .elem (.div (.index _) (.elem e (.elem c (.elem v p)))) gs, 3, r => max (nk (evE kp sy r e ++ (evT kp sy r 8 c ++ evT kp sy r 2 v)) + yP p 0 r) (nk (evE kp sy r e ++ (evT kp sy r 8 c ++ evT kp sy r 2 v) ++ evP kp fl sy pb pa p 0 r) + yP gs 3 r)
  | _, _, _ => 0
end

