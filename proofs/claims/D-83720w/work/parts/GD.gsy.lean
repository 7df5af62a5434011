/-! the component's coder: PROCs and the processor's process are typed -/
def prh (f : Nat) : Nat → Nat × Nat := fun t => (0, 1 + (t - f))
section
variable (sy : List Sym) (pz : List (Nat × Nat)) (pa : List (List Nat)) (bs : List Tm)
/-- PROC k -/
def kBd (k : Nat) (B : Tm) (a : Nat) : List It := iV 11 (-(nI (pz.getD k (0, 0)).1) - 3) :: (kP sy pz (pa.take k) B 0 (prh ((pa.getD k []).headD 0)) (fun _ => 0) 0 (1 + (pa.getD k []).length) (fun _ => 0) (a + 1) 0 0 ++ [iV 11 (nI (pz.getD k (0, 0)).1 + 3), iO 19])
def kBs : Nat → List It
  | 0 => []
  | k + 1 => kBs k ++ kBd sy pz pa k (bs.getD k .null) (kBs k).length
/-- all of it -/
def kAl (R : Tm) : List It := kBs sy pz pa bs bs.length ++ (kP sy pz pa R 0 (fun _ => (0, 0)) (fun _ => 0) 0 1 (fun _ => 0) (kBs sy pz pa bs bs.length).length 0 0 ++ [iO 31])
end
/-- what typing may change -/
def gT (h h' : mj_H) : Prop := (∀ g i j, ¬ (g = 10 ∨ g = 35 ∨ g = 36 ∨ (58 ≤ g ∧ g ≤ 66)) → h'.1 g i j = h.1 g i j) ∧ h'.2 = h.2
theorem gT.rf (h : mj_H) : gT h h := sorry
theorem gT.tr {h h1 h2 : mj_H} (a : gT h h1) (b : gT h1 h2) : gT h h2 := sorry
theorem kF.gt {s : Nat × Nat × Nat} {n l : Nat} {h h' : mj_H} (f : kF s n l h h') : gT h h' := sorry
theorem gT.gk {a b : Nat} {h h' : mj_H} (f : gT h h') : gK a b h h' := sorry
theorem gT.gd {a b : Nat} {h h' : mj_H} (f : gT h h') : gD a b h h' := sorry
theorem gT.sy {sy : List Sym} {h h' : mj_H} (f : gT h h') (S : SYc h sy) : SYc h' sy := sorry
theorem itC.mvO {m lo hi lo' hi' k : Nat} {ve ve' : List (Nat × Nat)} {h h' : mj_H} {it : It} (a : itC lo hi ve h k it) (ok : it.2.2.1 = 3 → it.2.2.2.1 < m) (f1 : ∀ g, 58 ≤ g → g ≤ 62 → h'.1 g 0 k = h.1 g 0 k) (f3 : ∀ p, p < m → h'.1 65 0 p = h.1 65 0 p) (f2 : ∀ l t, vlC lo hi ve h l t → vlC lo' hi' ve' h' l t) : itC lo' hi' ve' h' k it := sorry
theorem cdC.mvO {m mx lo hi lo' hi' : Nat} {ve ve' : List (Nat × Nat)} {h h' : mj_H} (f3 : ∀ p, p < m → h'.1 65 0 p = h.1 65 0 p) (f2 : ∀ l t, vlC lo hi ve h l t → vlC lo' hi' ve' h' l t) : ∀ (C : List It) (n : Nat), okL m mx C → cdC lo hi ve h n C → (∀ g k, 58 ≤ g → g ≤ 62 → n ≤ k → k < n + C.length → h'.1 g 0 k = h.1 g 0 k) → cdC lo' hi' ve' h' n C := sorry
theorem okL.le {m m' k k' : Nat} {L : List It} (a : okL m k L) (h : m ≤ m') (h2 : k ≤ k') : okL m' k' L := sorry
section
variable {sy : List Sym} {pz : List (Nat × Nat)} {pa : List (List Nat)} {bs : List Tm} {nl : Nat} {sg : Nat → Nat × Nat} {h0 : mj_H}
theorem kBd_len (k : Nat) (B : Tm) (a : Nat) : (kBd sy pz pa k B a).length = 3 + nQ sy (pa.take k) B 0 := sorry
theorem ok_Bs (hbl : bs.length = pa.length) (hY : ∀ k B, bs[k]? = some B → bdy sy pa nl k B (sg k)) : ∀ k, k ≤ bs.length → okL k (kBs sy pz pa bs k).length (kBs sy pz pa bs k) := sorry
/-- between PROCs -/
def JT (sy : List Sym) (pz : List (Nat × Nat)) (pa : List (List Nat)) (bs : List Tm) (h0 : mj_H) (m n lc : Nat) (h : mj_H) : Prop := gT h0 h ∧ (∃ fr, CK n lc fr h) ∧ n = (kBs sy pz pa bs m).length ∧ (∀ p, p < m → ∃ l, l < lc ∧ h.1 65 0 p = nI l ∧ (n ≤ 6000 → h.1 64 0 l = nI (kBs sy pz pa bs p).length)) ∧ (n ≤ 6000 → cdC 0 lc [] h 0 (kBs sy pz pa bs m)) ∧ (n ≤ 6000 → lc ≤ m + n) ∧ lc ≤ m + 11900
/-- begin -/
theorem c_begin {D n lc f : Nat} {h : mj_H} (hK : CK n lc f h) : ∃ h', mj_R mg D mq_155 (0, [(0, vR 10 0), (1, vI 0)], [], h) = some (.inl (none, h')) ∧ CK n lc 1 h' ∧ h'.1 10 0 12 = nI 0 ∧ h'.1 66 0 0 = 0 ∧ (∀ g i j, ¬ (g = 66 ∨ (g = 10 ∧ (j = 12 ∨ j = 13))) → h'.1 g i j = h.1 g i j) ∧ h'.2 = h.2 := sorry
/-- parameters get their words -/
theorem c_gives {Dp n lc m np f : Nat} {x1 : Int32} {k2 : Nat} (hm : m < 24) (hnp : np ≤ 6) (hf : f + np ≤ 200) : ∀ (j i : Nat) (h : mj_H), i + j = np → CK n lc (1 + i) h → h.1 10 0 12 = nI 0 → h.1 39 0 m = nI np → (∀ i, i < np → h.1 40 0 (6 * m + i) = nI (f + i)) →
    ∃ h', mj_R mg (Dp + 1) mq_156 (56, [(4, vI (nI i)), (3, vI (nI m)), (0, vR 10 0), (1, vI x1), (2, vR 69 k2)], [], h) = mj_R mg (Dp + 1) mq_156 (56, [(4, vI (nI np)), (3, vI (nI m)), (0, vR 10 0), (1, vI x1), (2, vR 69 k2)], [], h') ∧ CK n lc (1 + np) h' ∧ (∀ t, i ≤ t → t < np → h'.1 35 0 (f + t) = nI 0 ∧ h'.1 36 0 (f + t) = nI (1 + t)) ∧ (∀ g i' j, ¬ ((g = 10 ∧ j = 13) ∨ ((g = 35 ∨ g = 36) ∧ f + i ≤ j ∧ j < f + np)) → h'.1 g i' j = h.1 g i' j) ∧ h'.2 = h.2 := sorry
end

