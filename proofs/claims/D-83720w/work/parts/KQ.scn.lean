/-! (S): PROCs -/
def pG2 (sy : List Sym) (pb : Nat → Nat) (f n hi : Nat) : Int → Kd := fun o => if 1 ≤ o ∧ o ≤ n then pKd sy pb (f + (o - 1).toNat) else if 1 ≤ o ∧ o < hi then (1, 0, 0) else k0
def zPr (G : Int → Kd) (lo sz : Nat) : Sg := (G, (k0, k0, k0), (lo - sz - 3, sz + 3), (1, ((sz + 3 : Nat) : Int), 0), (0, [], 0, 0, 0), (0, []), fun _ => 0)
theorem or_bit {m : Nat} : ∀ (L : List Ev) (e : Ev), e ∈ L → e.2 &&& m ≠ 0 → orN L e.1.1 &&& m ≠ 0 := by
  intro L e
  induction L with
  | nil => exact fun h => nomatch h
  | cons x r ih =>
    intro h hm
    show ((if x.1.1 = e.1.1 then x.2 else 0) ||| orN r e.1.1) &&& m ≠ 0
    rw [Nat.and_or_distrib_right]
    intro z
    rw [Nat.or_eq_zero_iff] at z
    rcases List.mem_cons.mp h with y | y
    · rw [← y, if_pos rfl] at z
      exact hm z.1
    · exact ih y hm z.2
section
variable {C : Cx} {M : Nat} {E : En} {pe : Nat → Nat} {sy : List Sym} {pz : List (Nat × Nat)} {pa : List (List Nat)} {pb : Nat → Nat} {f f' n : Nat} {v : List Nat}
theorem prq_k {s : Nat} (h : prq sy s) : (srO sy s = 3 ∨ srO sy s = 4 ∨ srO sy s = 6 ∨ srO sy s = 8) ∧ (srO sy s = 6 → 1 ≤ szO sy s ∧ szO sy s ≤ 64) := ⟨h.1, h.2.1⟩
theorem wd_pr (hf : 1 ≤ n → f' = f) (hn : n < 50) {i : Nat} (hi : i < n) : (wdO (prh f') (fun _ => 0) (f + i)).toInt = ((1 + i : Nat) : Int) := by
  rw [hf (by omega)]
  unfold wdO prh
  dsimp only
  rw [show f + i - f = i by omega, Int32.zero_add, nI_toInt (by omega)]
theorem pG2_at {hi i : Nat} (h : i < n) : pG2 sy pb f n hi ((1 + i : Nat) : Int) = pKd sy pb (f + i) := by
  unfold pG2
  rw [if_pos (by omega), show (((1 + i : Nat) : Int) - 1).toNat = i by omega]
theorem pKd_3 {q : Nat} (h : srO sy q = 3) : pKd sy pb q = (1, 0, 0) := by rw [pKd, if_pos h]
theorem pKd_4 {q : Nat} (h : srO sy q = 4) : pKd sy pb q = (21, 1, 0) := by rw [pKd, if_neg (by omega), if_pos h]
theorem pKd_6 {q : Nat} (h : srO sy q = 6) : pKd sy pb q = (21, szO sy q, 0) := by rw [pKd, if_neg (by omega), if_neg (by omega), if_pos h]
theorem pKd_8 {q : Nat} (h : srO sy q = 8) : pKd sy pb q = (22, pb q &&& 12, 0) := by rw [pKd, if_neg (by omega), if_neg (by omega), if_neg (by omega)]
theorem pKd_c {q : Nat} : (pKd sy pb q).1 = 1 ∨ (pKd sy pb q).1 = 21 ∨ (pKd sy pb q).1 = 22 := by
  unfold pKd
  split
  · exact Or.inl rfl
  split
  · exact Or.inr (Or.inl rfl)
  split
  · exact Or.inr (Or.inl rfl)
  · exact Or.inr (Or.inr rfl)
/-- what is seen: parameters and wires -/
theorem see_pr (gv : ∀ s ∈ v, srO sy s = 1 ∧ szO sy s < 14) {t : Nat} (ht : t ∈ seeS v f n) : (∃ i, i < n ∧ t = f + i) ∨ (t ∈ v ∧ srO sy t = 1 ∧ szO sy t < 14) := by
  rcases see_mem n t ht with y | ⟨i, h1, h2⟩
  · exact Or.inr ⟨y, gv t y⟩
  · exact Or.inl ⟨i, h1, h2⟩
theorem cx_pr (hf : 1 ≤ n → f' = f) (hn : n < 50) (hp : ∀ i, i < n → prq sy (f + i)) (gv : ∀ s ∈ v, srO sy s = 1 ∧ szO sy s < 14) (wu : ∀ s ∈ v, ∀ s' ∈ v, szO sy s = szO sy s' → s = s') {sz lo : Nat} (h1 : 1 + n ≤ sz) (h5 : sz + 3 < 5000) : ctxP sy (seeS v f n) (wdO (prh f') (fun _ => 0)) (zPr (pG2 sy pb f n (sz + 3)) lo sz) (1 + n) := by
  have W := fun i hi => wd_pr (f := f) hf hn (i := i) hi
  have K := fun i hi => pG2_at (sy := sy) (pb := pb) (f := f) (n := n) (hi := sz + 3) (i := i) hi
  refine ⟨⟨rfl, rfl, rfl⟩, rfl, rfl, by omega, h5, fun o o1 o2 => ?_, fun s hs => ?_, fun s hs => ?_, fun s hs n1 n11 i hi => ?_, fun s hs n1 n11 => ?_, ⟨fun s hs s' hs' hne n1 n11 n1' n11' => ?_, fun s hs s' hs' e1 e1' ez => ?_⟩, fun o ho => ?_, fun o => ?_⟩
  · show pG2 sy pb f n (sz + 3) o = _
    have o2 : o < ((sz + 3 : Nat) : Int) := o2
    unfold pG2
    rw [if_neg (by omega), if_pos (by omega)]
  · show _ ∧ _
    rcases see_pr gv hs with ⟨i, hi, rfl⟩ | ⟨-, k1, ks⟩
    · have q := prq_k (hp i hi)
      show (_ → (pG2 sy pb f n (sz + 3) _).1 = 1) ∧ (_ → (pG2 sy pb f n (sz + 3) _).1 = 21 ∧ 1 ≤ (pG2 sy pb f n (sz + 3) _).2.1) ∧ (_ → _) ∧ (_ → (pG2 sy pb f n (sz + 3) _).1 = 21 ∧ szO sy (f + i) ≤ (pG2 sy pb f n (sz + 3) _).2.1) ∧ _
      rw [W i hi, K i hi]
      refine ⟨fun y => ?_, fun y => ?_, fun y => by omega, fun y => ?_, fun y => by have := q.2; omega, fun _ _ => by omega⟩
      · rw [pKd_3 (by omega)]
      · rw [pKd_4 y]; exact ⟨rfl, Nat.le_refl _⟩
      · rw [pKd_6 y]; exact ⟨rfl, Nat.le_refl _⟩
    · exact ⟨fun y => by omega, fun y => by omega, fun y => by omega, fun y => by omega, fun _ => by omega, fun y => (y k1).elim⟩
  · rcases see_pr gv hs with ⟨i, hi, rfl⟩ | ⟨-, k1, ks⟩
    · have q := prq_k (hp i hi)
      show (_ → (pG2 sy pb f n (sz + 3) _).1 = 2) ∧ (_ → (pG2 sy pb f n (sz + 3) _).1 = 22) ∧ _
      rw [W i hi, K i hi]
      refine ⟨fun y => by omega, fun y => ?_, fun y => by omega, fun y => by omega⟩
      rw [pKd_8 y]
    · exact ⟨fun y => by omega, fun y => by omega, fun y => by omega, fun _ => ks⟩
  · rcases see_pr gv hs with ⟨j, hj, rfl⟩ | ⟨-, k1, ks⟩
    · have q := prq_k (hp j hj)
      rw [if_neg (by omega)] at hi
      rw [W j hj]
      left
      omega
    · exact (n1 k1).elim
  · rcases see_pr gv hs with ⟨j, hj, rfl⟩ | ⟨-, k1, ks⟩
    · rw [W j hj]
      omega
    · exact (n1 k1).elim
  · rcases see_pr gv hs with ⟨j, hj, rfl⟩ | ⟨-, k1, ks⟩
    · rcases see_pr gv hs' with ⟨j', hj', rfl⟩ | ⟨-, k1, ks⟩
      · have q := prq_k (hp j hj)
        have q' := prq_k (hp j' hj')
        rw [W j hj, W j' hj']
        unfold nwS
        rw [if_neg (by omega), if_neg (by omega)]
        omega
      · exact (n1' k1).elim
    · exact (n1 k1).elim
  · rcases see_pr gv hs with ⟨j, hj, rfl⟩ | ⟨m1, k1, ks⟩
    · have q := prq_k (hp j hj); omega
    · rcases see_pr gv hs' with ⟨j', hj', rfl⟩ | ⟨m1', k1', ks'⟩
      · have q := prq_k (hp j' hj'); omega
      · exact wu s m1 s' m1' ez
  · have ho : (pG2 sy pb f n (sz + 3) o).1 ≠ 0 := ho
    unfold pG2 at ho
    split at ho
    · omega
    split at ho
    · omega
    · exact absurd rfl ho
  · show (pG2 sy pb f n (sz + 3) o).1 ≠ 15 ∧ (pG2 sy pb f n (sz + 3) o).1 ≠ 16
    unfold pG2
    split
    · rcases pKd_c (sy := sy) (pb := pb) (q := f + (o - 1).toNat) with y | y | y <;> rw [y] <;> decide
    split
    · decide
    · decide
theorem cr_pr (hf : 1 ≤ n → f' = f) (hn : n < 50) (hp : ∀ i, i < n → prq sy (f + i)) (gv : ∀ s ∈ v, srO sy s = 1 ∧ szO sy s < 14) {sz lo : Nat} {L : List Ev} (hpb : ∀ i, i < n → pb (f + i) = orN L (f + i)) (hw : ∀ e ∈ L, srO sy e.1.1 = 1 → e.2 = 0) : crt sy (seeS v f n) (wdO (prh f') (fun _ => 0)) (zPr (pG2 sy pb f n (sz + 3)) lo sz) L := by
  intro e he hv hs m hm hb
  rcases see_pr gv hv with ⟨i, hi, ei⟩ | ⟨-, k1, ks⟩
  · have q := prq_k (hp i hi)
    rw [← ei] at q
    refine ⟨fun y => by omega, fun y => ?_, fun y => by omega, fun y => by omega⟩
    show (pG2 sy pb f n (sz + 3) _).1 = 22 ∧ (pG2 sy pb f n (sz + 3) _).2.1 &&& m ≠ 0
    rw [ei, wd_pr hf hn hi, pG2_at hi, pKd_8 (by rw [← ei]; exact y)]
    refine ⟨rfl, ?_⟩
    show (pb (f + i) &&& 12) &&& m ≠ 0
    rw [Nat.and_assoc, show 12 &&& m = m by rcases hm with rfl | rfl <;> rfl, hpb i hi, ← ei]
    exact or_bit L e he hb
  · rw [hw e he k1, Nat.zero_and] at hb
    exact absurd rfl hb
/-- PROC k is safe -/
theorem ty_pr {kp : Nat → Bool} {fl mk : Bool} {lk : List (Nat × Nat)} {T k l hi lo a : Nat} {B : Tm} {pb0 : Nat → Nat} (o : oneW E) (kc : ∀ s, sChn (srO sy s) = true → kp s = true) (pm : plm C T) (pr : prO C M E pe sy pz (pa.take k) pb0) (wf : wfQ sy (pa.take k) B 0 l (seeS v f n) (f + n) hi) (h2 : hi ≤ 200) (fv : ∀ s ∈ v, s < f ∨ 200 ≤ s) (hl : l ≤ 17) (hn : n ≤ 6) (hp : ∀ i, i < n → prq sy (f + i)) (gv : ∀ s ∈ v, srO sy s = 1 ∧ szO sy s < 14) (wu : ∀ s ∈ v, ∀ s' ∈ v, szO sy s = szO sy s' → s = s')
    (eqs : pa.getD k [] = List.range' f n) (ez : pz.getD k (0, 0) = (1 + n + (mz sy pz B 0).1, (mz sy pz B 0).2)) (ho : offP kp fl mk sy pb0 (pa.take k) lk none B 0 r0 = []) (hpb : ∀ i, i < n → pb (f + i) = orN (evP kp fl sy pb0 (pa.take k) B 0 r0) (f + i)) (hc : cod C pe a (kBd sy pz pa k B a)) (hT : a + 3 + nQ sy (pa.take k) B 0 ≤ T) (h5 : (pz.getD k (0, 0)).1 + 3 < 5000) (lo1 : (pz.getD k (0, 0)).1 + 3 + (pz.getD k (0, 0)).2 + 3 ≤ lo) (lo2 : lo ≤ 5000) :
    gfX C M E (fun _ _ => False) a (zEn sy pb (pz.getD k (0, 0)).1 (pa.getD k []) lo) := by
  have hY : clo (fun (_ : Nat) (_ : Sg) => False) := fun _ _ _ h _ => h
  have hf : 1 ≤ n → (pa.getD k []).headD 0 = f := fun h => by
    rw [eqs]
    obtain ⟨n', rfl⟩ : ∃ n', n = n' + 1 := ⟨n - 1, by omega⟩
    rfl
  have hlen : (pa.getD k []).length = n := by rw [eqs, List.length_range']
  have hgd : ∀ i, i < n → (pa.getD k []).getD i 0 = f + i := fun i hi => by
    rw [eqs, List.getD_eq_getElem?_getD, List.getElem?_range' hi]
    show f + 1 * i = f + i
    omega
  unfold kBd at hc
  obtain ⟨c1, c2⟩ := hc
  rw [cod_app, kP_len, hlen] at c2
  obtain ⟨c2, c3, c4, -⟩ := c2
  generalize esz : (pz.getD k (0, 0)).1 = sz at *
  have e1 : sz = 1 + n + (mz sy pz B 0).1 := by rw [← esz, ez]
  have e2 : (pz.getD k (0, 0)).2 = (mz sy pz B 0).2 := by rw [ez]
  have t1 : (-(nI sz) - 3 : Int32).toInt = -((sz : Int) + 3) := by
    have a1 : (-(nI sz) : Int32).toInt = -(sz : Int) := by
      rw [Int32.toInt_neg, nI_toInt (by omega), Int.bmod_eq_of_le (by omega) (by omega)]
    rw [Int32.toInt_sub, a1]
    show (-(sz : Int) - 3).bmod _ = _
    rw [Int.bmod_eq_of_le (by omega) (by omega)]
    omega
  have t2 : (nI sz + 3 : Int32).toInt = (sz : Int) + 3 := by
    rw [Int32.toInt_add, nI_toInt (by omega)]
    show ((sz : Int) + 3).bmod _ = _
    rw [Int.bmod_eq_of_le (by omega) (by omega)]
  have i1 : ((zI (zPr (pG2 sy pb f n (sz + 3)) lo sz)).1 : Int) = (lo : Int) - (sz + 3) := by
    show ((lo - sz - 3 : Nat) : Int) = _
    omega
  -- behind the body
  have gE : gfX C M E (fun _ _ => False) (a + 1 + nQ sy (pa.take k) B 0) (zPr (pG2 sy pb f n (sz + 3)) lo sz) := by
    refine gf_ru (i_ajw (z' := ((fun _ => k0), (k0, k0, k0), (lo, 0), (1, 0, 0), (0, [], 0, 0, 0), (0, []), fun _ => 0)) c3 rfl rfl rfl rfl ?_ ?_ ?_ ?_ (fun _ => rfl) rfl rfl rfl rfl (fun o ho => absurd rfl ho) (gf_ru (i_ret (y := 0) c4 rfl rfl rfl)))
    · show (0 : Int) = ((sz + 3 : Nat) : Int) - (nI sz + 3 : Int32).toInt
      rw [t2]; omega
    · show (lo : Int) = ((zI (zPr (pG2 sy pb f n (sz + 3)) lo sz)).1 : Int) + (nI sz + 3 : Int32).toInt
      rw [t2, i1]; omega
    · show ((0 : Nat) : Int) = ((sz + 3 : Nat) : Int) - (nI sz + 3 : Int32).toInt
      rw [t2]; omega
    · show 3 ≤ lo
      omega
  have hyp : hypQ sy pz (pa.take k) pb0 kp fl mk lk none T B 0 l (seeS v f n) (f + n) hi (prh ((pa.getD k []).headD 0)) (fun _ => 0) 0 (1 + n) r0 (a + 1) (zPr (pG2 sy pb f n (sz + 3)) lo sz) := by
    refine ⟨wf, fun t ht => ?_, h2, ⟨rfl, fun t ht n1 n11 => ⟨Nat.le_refl _, ?_⟩⟩, by omega, cx_pr hf (by omega) hp gv wu (by omega) (by omega), cr_pr hf (by omega) hp gv hpb (fun e he k1 => ?_), ?_, ?_, ?_, ho, by omega⟩
    · rcases see_mem n t ht with y | ⟨i, y1, y2⟩
      · have := fv t y; omega
      · omega
    · rcases see_pr gv ht with ⟨i, hi, rfl⟩ | ⟨-, k1, -⟩
      · rw [wd_pr hf (by omega) hi]; omega
      · exact (n1 k1).elim
    · by_cases z : e.2 = 0
      · exact z
      · exact nomatch (ev_w B 0 l _ _ _ r0 wf ho e he k1 z)
    · show 1 + n + (mz sy pz B 0).1 ≤ sz + 3
      omega
    · show (mz sy pz B 0).2 + 3 ≤ lo - sz - 3
      omega
    · show lo - sz - 3 ≤ 5000
      omega
  have gB := ((tq_all o kc pm pr B 0).1 rfl) l _ _ _ _ _ _ _ _ _ _ hyp (fun _ _ => False) hY c2 gE
  have cvz : cv (zPr (fun o => if 1 ≤ o ∧ o ≤ n then pKd sy pb (f + (o - 1).toNat) else k0) lo sz) (zPr (pG2 sy pb f n (sz + 3)) lo sz) := by
    refine ⟨rfl, rfl, rfl, rfl, rfl, rfl, rfl, rfl, fun o => ?_, fun o ho => ?_⟩
    · show pG2 sy pb f n (sz + 3) o = (if 1 ≤ o ∧ o ≤ n then pKd sy pb (f + (o - 1).toNat) else k0) ∨ (pG2 sy pb f n (sz + 3) o).1 = 0 ∨ ((pG2 sy pb f n (sz + 3) o).1 = 1 ∧ 0 < o ∧ o < ((sz + 3 : Nat) : Int))
      unfold pG2
      by_cases c : 1 ≤ o ∧ o ≤ n
      · rw [if_pos c, if_pos c]; exact Or.inl rfl
      · rw [if_neg c, if_neg c]
        by_cases c' : 1 ≤ o ∧ o < ((sz + 3 : Nat) : Int)
        · rw [if_pos c']; exact Or.inr (Or.inr ⟨rfl, by omega, c'.2⟩)
        · rw [if_neg c']; exact Or.inr (Or.inl rfl)
    · exfalso
      have := (cx_pr (pb := pb) (lo := lo) hf (by omega) hp gv wu (sz := sz) (by omega) (by omega)).2.2.2.2.2.2.2.2.2.2.2.2 o
      rcases ho with ho | ho
      · exact this.1 ho
      · exact this.2 ho
  have g1 := gf_cv hY gB cvz
  refine gf_ru (i_ajw (z' := zPr (fun o => if 1 ≤ o ∧ o ≤ n then pKd sy pb (f + (o - 1).toNat) else k0) lo sz) c1 rfl rfl rfl rfl ?_ ?_ ?_ ?_ (fun y => ?_) rfl rfl rfl rfl (fun o ho => ?_) g1)
  · show ((sz + 3 : Nat) : Int) = (0 : Int) - (-(nI sz) - 3 : Int32).toInt
    rw [t1]; omega
  · show ((lo - sz - 3 : Nat) : Int) = (lo : Int) + (-(nI sz) - 3 : Int32).toInt
    rw [t1]; omega
  · show ((sz + 3 : Nat) : Int) = ((0 : Nat) : Int) - (-(nI sz) - 3 : Int32).toInt
    rw [t1]; omega
  · show 3 ≤ lo - sz - 3
    omega
  · exact absurd (show sz + 3 = 0 from y) (by omega)
  · have ho : ((if 1 ≤ o ∧ o ≤ n then pKd sy pb (f + (o - 1).toNat) else k0) : Kd).1 ≠ 0 := ho
    show 0 < o ∧ ((if 1 ≤ o ∧ o ≤ n then pKd sy pb (f + (o - 1).toNat) else k0) : Kd) = (if 1 ≤ o + (-(nI sz) - 3 : Int32).toInt + 3 + sz ∧ o + (-(nI sz) - 3 : Int32).toInt + 3 + sz ≤ ((pa.getD k []).length : Nat) then pKd sy pb ((pa.getD k []).getD (o + (-(nI sz) - 3 : Int32).toInt + 2 + sz).toNat 0) else k0) ∧ (((if 1 ≤ o ∧ o ≤ n then pKd sy pb (f + (o - 1).toNat) else k0) : Kd).1 = 1 ∨ ((if 1 ≤ o ∧ o ≤ n then pKd sy pb (f + (o - 1).toNat) else k0) : Kd).1 = 21 ∨ ((if 1 ≤ o ∧ o ≤ n then pKd sy pb (f + (o - 1).toNat) else k0) : Kd).1 = 22)
    by_cases c : 1 ≤ o ∧ o ≤ n
    · rw [if_pos c, t1, hlen, if_pos (by omega), show (o + -((sz : Int) + 3) + 2 + sz).toNat = (o - 1).toNat by omega, hgd _ (by omega)]
      exact ⟨by omega, rfl, pKd_c⟩
    · rw [if_neg c] at ho
      exact absurd rfl ho
end
