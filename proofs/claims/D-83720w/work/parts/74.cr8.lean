/-! rows of parts -/
/-- a row: what its members are, where it goes on; from where on they lie; the last one -/
def chl (N : Tm → Nat → Prop) (nx : Nat → Int32) : Nat → List Tm → Int32 → Nat → Prop
  | _, [], _, _ => False
  | lb, [a], x, l => x = nI l ∧ lb ≤ l ∧ N a l ∧ nx l = -1
  | lb, a :: b :: r, x, l => ∃ k, x = nI k ∧ lb ≤ k ∧ k < l ∧ N a k ∧ chl N nx (k + 1) (b :: r) (nx k) l
def chn (N : Tm → Nat → Prop) (nx : Nat → Int32) : Nat → List Tm → Int32 → Prop
  | _, [], x => x = -1
  | lb, a :: r, x => ∃ k, x = nI k ∧ lb ≤ k ∧ N a k ∧ chn N nx (k + 1) r (nx k)
theorem chl_lb {N : Tm → Nat → Prop} {nx : Nat → Int32} : ∀ {as : List Tm} {lb : Nat} {x : Int32} {l : Nat}, chl N nx lb as x l → lb ≤ l := sorry
theorem chl_n {N : Tm → Nat → Prop} {nx : Nat → Int32} : ∀ {as : List Tm} {lb : Nat} {x : Int32} {l : Nat}, chl N nx lb as x l → chn N nx lb as x := sorry
theorem chl_mv {N N' : Tm → Nat → Prop} {nx nx' : Nat → Int32} (hN : ∀ a k, N a k → N' a k) : ∀ {as : List Tm} {lb : Nat} {x : Int32} {l : Nat}, (∀ k, lb ≤ k → k ≤ l → nx' k = nx k) → chl N nx lb as x l → chl N' nx' lb as x l := sorry
/-- one more behind the last -/
theorem chl_app {N N' : Tm → Nat → Prop} {nx nx' : Nat → Int32} {b : Tm} {k2 : Nat} (hN : ∀ a k, N a k → N' a k) (hb : N' b k2) (h1 : nx' k2 = -1) : ∀ {as : List Tm} {lb : Nat} {x : Int32} {l : Nat}, (∀ k, lb ≤ k → k < l → nx' k = nx k) → nx' l = nI k2 → l < k2 → chl N nx lb as x l → chl N' nx' lb (as ++ [b]) x k2 := sorry
/-- a list in a term -/
def tmL : List Tm → Tm
  | [] => .null
  | a :: r => .elem a (tmL r)
/-! calls -/
/-- the state ahead of a line -/
def CY (t : Nat → Nat) (n : Nat) (h : mj_H) (sy : List Sym) (vis : List Nat) (np : Nat) (L : List PL) : Prop := CQ t n h L ∧ h.1 5 0 2 = 0 ∧ h.1 5 0 7 = nI 0 ∧ h.1 4 0 9 = nI np ∧ SYc h sy ∧ VSc h sy vis
/-- the tables of PROCs: their parameters -/
def PAc (h : mj_H) (sy : List Sym) (vis : List Nat) (pa : List (List Nat)) : Prop := pa.length ≤ 24 ∧ (∀ p, p < pa.length → h.1 39 0 p = nI (pa.getD p []).length ∧ (pa.getD p []).length ≤ 6 ∧ ∀ k q, (pa.getD p [])[k]? = some q → h.1 40 0 (6 * p + k) = nI q ∧ inSy sy q) ∧ ∀ s ∈ vis, srO sy s = 0 → szO sy s < pa.length
theorem PAc.mv {np : Nat} {h h' : mj_H} {sy : List Sym} {vis : List Nat} {pa : List (List Nat)} (a : PAc h sy vis pa) (f : gF np h h') : PAc h' sy vis pa := sorry
/-- an argument's part -/
def nA (u lo hi : Nat) (h : mj_H) (a : Tm) (k : Nat) : Prop := rN u lo hi h k 14 ∧ ∃ j, h.1 23 0 k = nI j ∧ rE u lo hi h a j
def pC (t : Nat → Nat) (n : Nat) (sy : List Sym) (vis : List Nat) (np u : Nat) (L : List PL) (bd p k : Nat) (h : mj_H) (v : Option mj_V) (h' : mj_H) : Rs (List Tm) → Prop
  | .inl f => (∃ r, v = some (vI r)) ∧ pB t n np h h' (f.1, some (u, f.2)) 3058
  | .inr as => ∃ np', v = some (vI (nI k)) ∧ CY t n h' sy vis np' L ∧ gF np h h' ∧ rN u np np' h' k 5 ∧ (h'.1 26 0 k = nI p ∧ h'.1 27 0 k = -1) ∧ chn (nA u np np' h') (fun k => h'.1 27 0 k) (k + 1) as (h'.1 23 0 k) ∧ np' ≤ bd ∧ np ≤ np'
theorem cb320 {t : Nat → Nat} {n d np : Nat} {x1 x2 x3 x4 x5 x6 x7 x8 : Int32} {h h1 : mj_H} {f : Flt} {B : Nat} (b : pB t n np h h1 f B) : mP (mj_R mg (d + 7) mq_73 (320, [(7, vI x7), (6, vI x6), (5, vI x5), (4, vI x4), (3, vI x3), (0, vR 5 0), (1, vI x1), (2, vI x2)], [], h1)) (fun v h' => (∃ r, v = some (vI r)) ∧ pB t n np h h' f B) := sorry
theorem cb111 {t : Nat → Nat} {n d np : Nat} {x1 x2 x3 x4 x5 x6 x7 x8 : Int32} {h h1 : mj_H} {f : Flt} {B : Nat} (b : pB t n np h h1 f B) : mP (mj_R mg (d + 7) mq_73 (111, [(7, vI x7), (6, vI x6), (5, vI x5), (4, vI x4), (3, vI x3), (0, vR 5 0), (1, vI x1), (2, vI x2)], [], h1)) (fun v h' => (∃ r, v = some (vI r)) ∧ pB t n np h h' f B) := sorry
theorem cb320_2 {t : Nat → Nat} {n d np : Nat} {x1 x2 x3 x4 x5 x6 x7 x8 : Int32} {h h1 : mj_H} {f : Flt} {B : Nat} (b : pB t n np h h1 f B) : mP (mj_R mg (d + 7) mq_73 (320, [(7, vI x7), (5, vI x5), (8, vI x8), (6, vI x6), (4, vI x4), (3, vI x3), (0, vR 5 0), (1, vI x1), (2, vI x2)], [], h1)) (fun v h' => (∃ r, v = some (vI r)) ∧ pB t n np h h' f B) := sorry
theorem cb111_2 {t : Nat → Nat} {n d np : Nat} {x1 x2 x3 x4 x5 x6 x7 x8 : Int32} {h h1 : mj_H} {f : Flt} {B : Nat} (b : pB t n np h h1 f B) : mP (mj_R mg (d + 7) mq_73 (111, [(7, vI x7), (5, vI x5), (8, vI x8), (6, vI x6), (4, vI x4), (3, vI x3), (0, vR 5 0), (1, vI x1), (2, vI x2)], [], h1)) (fun v h' => (∃ r, v = some (vI r)) ∧ pB t n np h h' f B) := sorry
theorem cb180 {t : Nat → Nat} {n d np : Nat} {x1 x2 x3 x4 x5 x6 x7 x8 s0 : Int32} {h h1 : mj_H} {f : Flt} {B : Nat} (b : pB t n np h h1 f B) : mP (mj_R mg (d + 7) mq_73 (180, [(7, vI x7), (6, vI x6), (5, vI x5), (4, vI x4), (3, vI x3), (0, vR 5 0), (1, vI x1), (2, vI x2)], [vI s0], h1)) (fun v h' => (∃ r, v = some (vI r)) ∧ pB t n np h h' f B) := sorry
theorem cb149 {t : Nat → Nat} {n d np : Nat} {x1 x2 x3 x4 x5 x6 x7 x8 : Int32} {h h1 : mj_H} {f : Flt} {B : Nat} (b : pB t n np h h1 f B) : mP (mj_R mg (d + 7) mq_73 (149, [(7, vI x7), (6, vI x6), (5, vI x5), (4, vI x4), (3, vI x3), (0, vR 5 0), (1, vI x1), (2, vI x2)], [], h1)) (fun v h' => (∃ r, v = some (vI r)) ∧ pB t n np h h' f B) := sorry
theorem cb180_2 {t : Nat → Nat} {n d np : Nat} {x1 x2 x3 x4 x5 x6 x7 x8 s0 : Int32} {h h1 : mj_H} {f : Flt} {B : Nat} (b : pB t n np h h1 f B) : mP (mj_R mg (d + 7) mq_73 (180, [(7, vI x7), (5, vI x5), (8, vI x8), (6, vI x6), (4, vI x4), (3, vI x3), (0, vR 5 0), (1, vI x1), (2, vI x2)], [vI s0], h1)) (fun v h' => (∃ r, v = some (vI r)) ∧ pB t n np h h' f B) := sorry
theorem cb149_2 {t : Nat → Nat} {n d np : Nat} {x1 x2 x3 x4 x5 x6 x7 x8 : Int32} {h h1 : mj_H} {f : Flt} {B : Nat} (b : pB t n np h h1 f B) : mP (mj_R mg (d + 7) mq_73 (149, [(7, vI x7), (5, vI x5), (8, vI x8), (6, vI x6), (4, vI x4), (3, vI x3), (0, vR 5 0), (1, vI x1), (2, vI x2)], [], h1)) (fun v h' => (∃ r, v = some (vI r)) ∧ pB t n np h h' f B) := sorry
