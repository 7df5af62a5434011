/-! the twin's uses: clashes of branches -/
def rowT (h : mj_H) (k : Nat) (e : Ev) : Prop := h.1 111 0 k = nI (tw e.1.1) ∧ h.1 113 0 k = bI e.1.2.1 ∧ h.1 112 0 k = e.1.2.2 ∧ h.1 114 0 k = nI e.2 ∧ okEv e
theorem mcl_f : ∀ a b : Fin 16, (((a.1 &&& 2 != 0 && b.1 &&& 3 != 0) || (b.1 &&& 2 != 0 && a.1 &&& 3 != 0)) || a.1 &&& b.1 &&& 12 != 0) = mcl a.1 b.1 := sorry
theorem mcl_s : ∀ a b : Fin 16, mcl a.1 b.1 = mcl b.1 a.1 := sorry
theorem t_clash {D a b : Nat} {h : mj_H} (ha : a < 16) (hb : b < 16) : mj_R mg D mq_285 (0, [(0, vI (nI a)), (1, vI (nI b))], [], h) = some (.inl (some (vI (bI (mcl a b))), h)) := sorry
theorem t_wrong {D k u : Nat} {h : mj_H} (hk : k < 7000) (h88 : h.1 88 0 k = nI u) : mj_R mg D mq_286 (0, [(0, vR 15 0), (1, vI (nI k))], [], h) = some (.inl (none, mj_sI h 15 0 67 (mnI (h.1 15 0 67) (nI u)))) := sorry
theorem mkF_t {s z : Nat} (hs : s < 202) : mkF true z s = decide (tw s < z + 2) := sorry
/-- one pair of rows -/
theorem t_prow {D z i j : Nat} {x1 x2 x3 x4 : Int32} {h : mj_H} {x y : Ev} (hx : rowT h i x) (hy : rowT h j y) (hi : i < 60000) (hj : j < 60000) (hz : z + 2 < 1000) {Q : Option mj_V → mj_H → Prop}
    (K1 : (mkF true z x.1.1 && mtK x.1 y.1 && mcl x.2 y.2) = true → Q (some (vI 1)) h) (K0 : (mkF true z x.1.1 && mtK x.1 y.1 && mcl x.2 y.2) = false → ∀ x8 : Int32, mP (mj_R mg (D + 1) mq_288 (119, [(8, vI x8), (7, vI (nI j)), (6, vI (nI i)), (0, vR 15 0), (1, vI x1), (2, vI x2), (3, vI x3), (4, vI x4), (5, vI (nI (z + 2)))], [], h)) Q) (h4 : ¬ x4 ≤ nI j) :
    mP (mj_R mg (D + 1) mq_288 (12, [(7, vI (nI j)), (6, vI (nI i)), (0, vR 15 0), (1, vI x1), (2, vI x2), (3, vI x3), (4, vI x4), (5, vI (nI (z + 2)))], [], h)) Q := sorry
theorem t_bc2 {D z i b bE : Nat} {x1 x2 : Int32} {h : mj_H} {x : Ev} (hx : rowT h i x) (hi : i < 60000) (hz : z + 2 < 1000) (hbE : bE ≤ 60000) {Q : Option mj_V → mj_H → Prop} : ∀ (S : List Ev) (j : Nat), j + S.length = bE → (∀ t y, S[t]? = some y → rowT h (j + t) y) →
    ((S.any fun y => mkF true z x.1.1 && mtK x.1 y.1 && mcl x.2 y.2) = true → Q (some (vI 1)) h) → ((S.any fun y => mkF true z x.1.1 && mtK x.1 y.1 && mcl x.2 y.2) = false → mP (mj_R mg (D + 1) mq_288 (3, [(6, vI (nI (i + 1))), (0, vR 15 0), (1, vI x1), (2, vI x2), (3, vI (nI b)), (4, vI (nI bE)), (5, vI (nI (z + 2)))], [], h)) Q) →
    mP (mj_R mg (D + 1) mq_288 (12, [(7, vI (nI j)), (6, vI (nI i)), (0, vR 15 0), (1, vI x1), (2, vI x2), (3, vI (nI b)), (4, vI (nI bE)), (5, vI (nI (z + 2)))], [], h)) Q := sorry
/-- whether two branches clash -/
theorem t_bc {D z b bE : Nat} {x1 : Int32} {h : mj_H} {S2 : List Ev} (hz : z + 2 < 1000) (hbE : b + S2.length = bE) (hb6 : bE ≤ 60000) (h2 : ∀ t y, S2[t]? = some y → rowT h (b + t) y) : ∀ (S1 : List Ev) (i aE : Nat), i + S1.length = aE → aE ≤ 60000 → (∀ t y, S1[t]? = some y → rowT h (i + t) y) →
    mj_R mg (D + 1) mq_288 (3, [(6, vI (nI i)), (0, vR 15 0), (1, vI x1), (2, vI (nI aE)), (3, vI (nI b)), (4, vI (nI bE)), (5, vI (nI (z + 2)))], [], h) = some (.inl (some (vI (bI (cls (mkF true z) S1 S2))), h)) := sorry
def prC (g : Nat → Bool) : List (List Ev) → Bool
  | [] => false
  | X :: r => r.any (fun Y => cls g X Y) || prC g r
theorem mtK_s (a b : Ky) : mtK a b = mtK b a := sorry
theorem cls_s {g : Nat → Bool} {E F : List Ev} (hE : ∀ e ∈ E, e.2 < 16) (hF : ∀ e ∈ F, e.2 < 16) : cls g E F = cls g F E := sorry
theorem cls_ap {g : Nat → Bool} {E A B : List Ev} : cls g E (A ++ B) = (cls g E A || cls g E B) := sorry
theorem clB_pr {g : Nat → Bool} : ∀ (L : List (List Ev)) (A : List Ev), (∀ E ∈ L, ∀ e ∈ E, e.2 < 16) → (∀ e ∈ A, e.2 < 16) → clB g A L = ((L.any fun Y => cls g Y A) || prC g L) := sorry
def oqL : List (List Ev) → List (List Ev) → Prop
  | [], [] => True
  | S :: L, E :: M => (∀ k, orm S k = orm E k) ∧ oqL L M
  | _, _ => False
theorem oqL_any {g : Nat → Bool} {X Y : List Ev} (hX : ∀ k, orm X k = orm Y k) : ∀ {L M : List (List Ev)}, oqL L M → (L.any fun Z => cls g X Z) = (M.any fun Z => cls g Y Z) := sorry
theorem prC_cg {g : Nat → Bool} : ∀ {L M : List (List Ev)}, oqL L M → prC g L = prC g M := sorry
theorem oqL.ap {S E : List Ev} (h : ∀ k, orm S k = orm E k) : ∀ {L M : List (List Ev)}, oqL L M → oqL (L ++ [S]) (M ++ [E]) := sorry
