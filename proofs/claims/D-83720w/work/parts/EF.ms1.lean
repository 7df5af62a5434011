/-! the component measures: expressions, small things -/
theorem m_max {a b d : Nat} {h : mj_H} (ha : a < 2 ^ 31) (hb : b < 2 ^ 31) : mj_R mg d mq_366 (0, [(0, vI (nI a)), (1, vI (nI b))], [], h) = some (.inl (some (vI (nI (max a b))), h)) := sorry
theorem lcmp_nn {a b : Nat} (ha : a < 2 ^ 62) (hb : b < 2 ^ 62) : 0 < lg_cmp (lN a) (lN b) ↔ b < a := sorry
theorem c_least {x d : Nat} {h : mj_H} (hx : x < 2 ^ 62) : mj_R mg (d + 1) mq_104 (0, [(0, vL (lN x))], [], h) = some (.inl (some (vI (nI (min x 1048576))), h)) := sorry
/-- a part's words are kept -/
def ptC (h : mj_H) (k : Nat) (a b : Int32) : mj_H := mj_sI (mj_sI h 29 0 k a) 30 0 k b
theorem c_put {k d : Nat} {a b : Int32} {h : mj_H} (hk : k < 3100) : mj_R mg d mq_106 (0, [(0, vR 7 0), (1, vI (nI k)), (2, vI a), (3, vI b)], [], h) = some (.inl (none, ptC h k a b)) := sorry
theorem c_block {k e v d : Nat} {h : mj_H} (hk : k < 3100) (h29 : h.1 29 0 k = nI e) (h30 : h.1 30 0 k = nI v) (he : e < 100000) (hv : v ≤ 1048576) : mj_R mg (d + 2) mq_105 (0, [(0, vR 7 0), (1, vI (nI k))], [], h) = some (.inl (some (vI (nI (min (1 + e + v + 3) 1048576))), h)) := sorry
def eK : Tm → Nat
  | .int _ => 16
  | .arg _ => 17
  | .elem _ _ => 18
  | .add _ _ => 19
  | .length _ => 20
  | .sum _ => 21
  | .old e => eK e
  | _ => 0
theorem rE_k {u lo hi : Nat} {h : mj_H} {e : Tm} {k : Nat} : rE u lo hi h e k → rN u lo hi h k (eK e) ∧ smp e = (eK e == 16 || eK e == 17) := sorry
theorem c_smp {u lo hi k d : Nat} {h : mj_H} {e : Tm} (a : rE u lo hi h e k) (hh : hi ≤ 3100) : mj_R mg d mq_102 (0, [(0, vR 4 0), (1, vI (nI k))], [], h) = some (.inl (some (vI (bI (smp e))), h)) := sorry
theorem opC_lt {k : Tok} {o : Nat} (h : isO k = true ∧ opC k = o) : o < 30000 := sorry
theorem c_exp {u lo hi : Nat} {h : mj_H} {sy : List Sym} {vis : List Nat} (hh : hi ≤ 3100) : ∀ (e : Tm) (k : Nat), rE u lo hi h e k → wfE sy vis e → eH e ≤ 100 → ∀ D, eH e + 3 ≤ D → mj_R mg D mq_103 (0, [(0, vR 7 0), (1, vI (nI k))], [], h) = some (.inl (some (vI (nI (exw e))), h)) := sorry
/-- a thing's words -/
theorem c_ref {u lo hi k D : Nat} {h : mj_H} {sy : List Sym} {vis : List Nat} {e : Tm} (hh : hi ≤ 3100) (a : rE u lo hi h e k) (w : wfV sy vis e ∨ wfC sy vis e) (hD : 30 ≤ D) : mj_R mg D mq_103 (0, [(0, vR 7 0), (1, vI (nI k))], [], h) = some (.inl (some (vI (nI (exw e))), h)) := sorry
theorem c_expX {u lo hi k D : Nat} {h : mj_H} {sy : List Sym} {vis : List Nat} {e : Tm} (hh : hi ≤ 3100) (a : rE u lo hi h e k) (w : wfX sy vis e) (hD : 30 ≤ D) : mj_R mg D mq_103 (0, [(0, vR 7 0), (1, vI (nI k))], [], h) = some (.inl (some (vI (nI (exw e))), h)) := sorry
