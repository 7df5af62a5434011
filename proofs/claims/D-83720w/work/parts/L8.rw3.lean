/-! rows: bodies of the innermost loops -/
/-- X words are enough: no PAR, no calls with less than 7 -/
def zn (X : Nat) : Tm → Nat → Prop
  | .div (.index _) (.rem (.elem (.index _) (.index _)) p), 0 => zn X p 0
  | .div (.index _) (.add v e), 0 => exw v ≤ X ∧ exw e ≤ X
  | .div (.index _) (.sub v e), 0 => exw v ≤ X ∧ exw e ≤ X
  | .div (.index _) (.mul v e), 0 => exw v ≤ X ∧ exw e ≤ X
  | .div (.index _) (.elem (.index _) _), 0 => 7 ≤ X
  | .div (.index _) (.length ps), 0 => zn X ps 1
  | .div (.index _) (.rem (.arg _) (.elem (.elem e1 e2) p)), 0 => exw e1 ≤ X ∧ exw e2 ≤ X ∧ zn X p 0
  | .div (.index _) (.rem .null gs), 0 => zn X gs 2
  | .div (.index _) (.div e p), 0 => exw e ≤ X ∧ zn X p 0
  | .div (.index _) (.rem .result gs), 0 => zn X gs 3
  | .div (.index _) .null, 0 => True
  | .div (.index _) .result, 0 => True
  | .null, 1 => True
  | .elem p ps, 1 => zn X p 0 ∧ zn X ps 1
  | .null, 2 => True
  | .elem (.elem e p) gs, 2 => exw e ≤ X ∧ zn X p 0 ∧ zn X gs 2
  | .null, 3 => True
  | .elem (.div (.index _) (.elem e (.elem c (.elem v p)))) gs, 3 => exw e ≤ X ∧ exw c ≤ X ∧ exw v ≤ X ∧ zn X p 0 ∧ zn X gs 3
  | _, _ => False
theorem mz4_le {sy : List Sym} {pz : List (Nat × Nat)} : ∀ ps, 4 * tmN ps ≤ (mz sy pz ps 4).2 := by
  intro ps
  induction ps using tmN.induct with
  | case1 p ps ih =>
    show 4 * (tmN ps + 1) ≤ (1 + (mz sy pz p 0).1 + (mz sy pz p 0).2 + 3) + (mz sy pz ps 4).2
    omega
  | case2 A h =>
    have : tmN A = 0 := by
      unfold tmN
      split
      · exact (h _ _ rfl).elim
      · rfl
    omega
theorem zn_of {sy : List Sym} {pz : List (Nat × Nat)} {X : Nat} (hX : X ≤ 9) : ∀ (A : Tm) (md : Nat) (vis : List Nat), rdQ sy A md vis → (mz sy pz A md).1 + (mz sy pz A md).2 ≤ X → zn X A md := by
  intro A md vis
  induction A, md, vis using rdQ.induct with
  | case1 u s c p vis ih =>
    intro h hm
    have hm' : dsz sy s c + (mz sy pz p 0).1 + (mz sy pz p 0).2 ≤ X := hm
    exact ih h.2 (by omega)
  | case2 u v e vis =>
    intro h hm
    have hm' : max (exw v) (exw e) + 0 ≤ X := hm
    exact ⟨by omega, by omega⟩
  | case3 u v e vis =>
    intro h hm
    have hm' : max (exw v) (exw e) + 0 ≤ X := hm
    exact ⟨by omega, by omega⟩
  | case4 u v e vis =>
    intro h hm
    have hm' : max (exw v) (exw e) + 0 ≤ X := hm
    exact ⟨by omega, by omega⟩
  | case5 u p as vis =>
    intro h hm
    have hm' : mxA as + (7 + (pz.getD p (0, 0)).1 + (pz.getD p (0, 0)).2) ≤ X := hm
    show 7 ≤ X
    omega
  | case6 u ps vis ih => exact fun h hm => ih h.2 hm
  | case7 u s e1 e2 p vis ih =>
    intro h hm
    have hm' : 2 + max (max (exw e1) (exw e2)) (mz sy pz p 0).1 + (mz sy pz p 0).2 ≤ X := hm
    exact ⟨by omega, by omega, ih h.2.2.2 (by omega)⟩
  | case8 u z ps vis ih =>
    intro h hm
    have hm' : 3 + (3 + (mz sy pz ps 4).2) ≤ X := hm
    have := mz4_le (sy := sy) (pz := pz) ps
    have := h.1.2
    omega
  | case9 u z ps vis ih =>
    intro h hm
    have hm' : 3 + (3 + (mz sy pz ps 4).2) ≤ X := hm
    have := mz4_le (sy := sy) (pz := pz) ps
    have := h.1.2
    omega
  | case10 u s b m p vis ih =>
    intro h hm
    have hm' : 3 + (3 + m * (1 + (mz sy pz p 0).1 + (mz sy pz p 0).2 + 3)) ≤ X := hm
    have h1 : 1 * (1 + (mz sy pz p 0).1 + (mz sy pz p 0).2 + 3) ≤ m * (1 + (mz sy pz p 0).1 + (mz sy pz p 0).2 + 3) := Nat.mul_le_mul_right _ h.2.1
    omega
  | case11 u gs vis ih => exact fun h hm => ih h.2 hm
  | case12 u e p vis ih =>
    intro h hm
    have hm' : max (exw e) (mz sy pz p 0).1 + (mz sy pz p 0).2 ≤ X := hm
    exact ⟨by omega, ih h.2.2 (by omega)⟩
  | case13 u gs vis ih =>
    intro h hm
    have hm' : (mz sy pz gs 3).1 + 2 * tmN gs + (mz sy pz gs 3).2 ≤ X := hm
    exact ih h.2.2 (by omega)
  | case14 => exact fun _ _ => trivial
  | case15 => exact fun _ _ => trivial
  | case16 => exact fun _ _ => trivial
  | case17 p ps vis ih1 ih2 =>
    intro h hm
    have hm' : max (mz sy pz p 0).1 (mz sy pz ps 1).1 + max (mz sy pz p 0).2 (mz sy pz ps 1).2 ≤ X := hm
    exact ⟨ih1 h.1 (by omega), ih2 h.2 (by omega)⟩
  | case18 => exact fun _ _ => trivial
  | case19 e p gs vis ih1 ih2 =>
    intro h hm
    have hm' : max (max (mz sy pz p 0).1 (exw e)) (mz sy pz gs 2).1 + max (mz sy pz p 0).2 (mz sy pz gs 2).2 ≤ X := hm
    exact ⟨by omega, ih1 h.2.1 (by omega), ih2 h.2.2 (by omega)⟩
  | case20 => exact fun _ _ => trivial
  | case21 u e c v p gs vis ih1 ih2 =>
    intro h hm
    have hm' : max (max (max (mz sy pz p 0).1 (exw e)) (max (exw c) (exw v))) (mz sy pz gs 3).1 + max (mz sy pz p 0).2 (mz sy pz gs 3).2 ≤ X := hm
    exact ⟨by omega, by omega, by omega, ih1 h.2.2.2.1 (by omega), ih2 h.2.2.2.2 (by omega)⟩
  | case22 A md vis h1 h2 h3 h4 h5 h6 h7 h8 h9 h10 h11 h12 h13 h14 h15 h16 h17 h18 h19 h20 h21 =>
    intro h
    unfold rdQ at h
    split at h
    · exact (h1 _ _ _ _ rfl rfl).elim
    · exact (h2 _ _ _ rfl rfl).elim
    · exact (h3 _ _ _ rfl rfl).elim
    · exact (h4 _ _ _ rfl rfl).elim
    · exact (h5 _ _ _ rfl rfl).elim
    · exact (h6 _ _ rfl rfl).elim
    · exact (h7 _ _ _ _ _ rfl rfl).elim
    · exact (h8 _ _ _ rfl rfl).elim
    · exact (h9 _ _ _ rfl rfl).elim
    · exact (h10 _ _ _ _ _ rfl rfl).elim
    · exact (h11 _ _ rfl rfl).elim
    · exact (h12 _ _ _ rfl rfl).elim
    · exact (h13 _ _ rfl rfl).elim
    · exact (h14 _ rfl rfl).elim
    · exact (h15 _ rfl rfl).elim
    · exact (h16 rfl rfl).elim
    · exact (h17 _ _ rfl rfl).elim
    · exact (h18 rfl rfl).elim
    · exact (h19 _ _ _ rfl rfl).elim
    · exact (h20 rfl rfl).elim
    · exact (h21 _ _ _ _ _ _ rfl rfl).elim
    · exact h.elim
/-- all leaves of such a body -/
def lvQ (kp : Nat → Bool) (pa : List (List Nat)) : Tm → Nat → List Tm
  | .div (.index _) (.rem (.elem (.index _) (.index _)) p), 0 => lvQ kp pa p 0
  | .div (.index _) (.add v e), 0 => lvE kp e ++ lvE kp v
  | .div (.index _) (.sub v e), 0 => lvE kp e ++ lvE kp v
  | .div (.index _) (.mul v e), 0 => lvE kp v ++ lvE kp e
  | .div (.index _) (.elem (.index p) as), 0 => lvA kp (pa.getD p []) as
  | .div (.index _) (.length ps), 0 => lvQ kp pa ps 1
  | .div (.index _) (.rem (.arg _) (.elem (.elem e1 e2) p)), 0 => lvE kp e1 ++ lvE kp e2 ++ lvQ kp pa p 0
  | .div (.index _) (.rem .null gs), 0 => lvQ kp pa gs 2
  | .div (.index _) (.div e p), 0 => lvE kp e ++ lvQ kp pa p 0
  | .div (.index _) (.rem .result gs), 0 => lvQ kp pa gs 3
  | .elem p ps, 1 => lvQ kp pa p 0 ++ lvQ kp pa ps 1
  | .elem (.elem e p) gs, 2 => lvE kp e ++ lvQ kp pa p 0 ++ lvQ kp pa gs 2
  | .elem (.div (.index _) (.elem e (.elem c (.elem v p)))) gs, 3 => lvE kp e ++ (lvE kp c ++ lvE kp v) ++ lvQ kp pa p 0 ++ lvQ kp pa gs 3
  | _, _ => []
/-- the names that it declares -/
def dsQ : Tm → Nat → List Nat
  | .div (.index _) (.rem (.elem (.index s) (.index c)) p), 0 => List.range' s c ++ dsQ p 0
  | .div (.index _) (.length ps), 0 => dsQ ps 1
  | .div (.index _) (.rem (.arg s) (.elem (.elem _ _) p)), 0 => s :: dsQ p 0
  | .div (.index _) (.rem .null gs), 0 => dsQ gs 2
  | .div (.index _) (.div _ p), 0 => dsQ p 0
  | .div (.index _) (.rem .result gs), 0 => dsQ gs 3
  | .elem p ps, 1 => dsQ p 0 ++ dsQ ps 1
  | .elem (.elem _ p) gs, 2 => dsQ p 0 ++ dsQ gs 2
  | .elem (.div (.index _) (.elem _ (.elem _ (.elem _ p)))) gs, 3 => dsQ p 0 ++ dsQ gs 3
  | _, _ => []
/-- a call, may be below declarations -/
def icQ : Tm → Bool
  | .div (.index _) (.rem (.elem (.index _) (.index _)) p) => icQ p
  | .div (.index _) (.elem (.index _) _) => true
  | _ => false
def kK (K : Nat) : Nat → Bool → Nat
  | 0, false => K
  | _, _ => 0
theorem cN_2 (sy : List Sym) (s : Nat) : ∀ c, 2 * c ≤ cN sy s c
  | 0 => Nat.le_refl _
  | c + 1 => by
    have h1 := cN_2 sy s c
    have h2 : 1 ≤ ncs sy (s + c) := nc_1 _
    show 2 * (c + 1) ≤ cN sy s c + ncs sy (s + c) + 1
    omega
section
variable {kp : Nat → Bool} {sy : List Sym} {pa : List (List Nat)} {w : Tm → Nat}
theorem zc {o oE K X lv0 : Nat} (P : prc kp sy w o oE) (hpa : ∀ p, (pa.getD p []).length ≤ 6) (h6 : 6 ≤ lv0) (ho : o ≤ 56) (hE : oE ≤ 92) (hK : K ≤ 172) (h1 : o + oE + K ≤ 20 * (2 * lv0 + 2)) (hc : X < 7 ∨ (oE - 20) * 6 ≤ 20 * (2 * lv0 + 3)) :
    ∀ (A : Tm) (md : Nat) (vis : List Nat), rdQ sy A md vis → zn X A md → ∀ lv, lv0 ≤ lv → wtS w (lvQ kp pa A md) + 40 * (dsQ A md).length + kK K md (icQ A) ≤ 20 * cQ sy A md lv := by
  intro A md vis
  induction A, md, vis using rdQ.induct with
  | case1 u s c p vis ih =>
    intro h z lv hlv
    have i1 := ih h.2 z lv hlv
    have c2 := cN_2 sy s c
    show wtS w (lvQ kp pa p 0) + 40 * (List.range' s c ++ dsQ p 0).length + kK K 0 (icQ p) ≤ 20 * (2 * lv + 4 + (if 0 < szO sy s then 3 else 0) + cN sy s c + cQ sy p 0 lv)
    rw [List.length_append, List.length_range']
    omega
  | case2 u v e vis =>
    intro h z lv hlv
    have e1 := (prE P 8 v h.2.2.1).2 (thI_op h.2.1)
    have e2 := (prE P 8 e h.2.2.2).1
    show wtS w (lvE kp e ++ lvE kp v) + 40 * 0 + K ≤ 20 * (2 * lv + 3 + cE sy v + cE sy e)
    rw [wtS_app]
    omega
  | case3 u v e vis =>
    intro h z lv hlv
    have e1 := (prE P 8 v h.2.2.1).2 (thI_op h.2.1)
    have e2 := (prE P 8 e h.2.2.2).1
    show wtS w (lvE kp e ++ lvE kp v) + 40 * 0 + K ≤ 20 * (2 * lv + 2 + cE sy v + cE sy e)
    rw [wtS_app]
    omega
  | case4 u v e vis =>
    intro h z lv hlv
    have e1 := (prE P 8 v h.2.2.1).2 (thI_op h.2.1)
    have e2 := (prE P 8 e h.2.2.2.2).1
    show wtS w (lvE kp v ++ lvE kp e) + 40 * 0 + K ≤ 20 * (2 * lv + 2 + cE sy v + cE sy e)
    rw [wtS_app]
    omega
  | case5 u p as vis =>
    intro h z lv hlv
    have z' : 7 ≤ X := z
    have e1 := prA P (pa.getD p []) as h.2
    have e2 : (oE - 20) * (pa.getD p []).length ≤ (oE - 20) * 6 := Nat.mul_le_mul_left _ (hpa p)
    show wtS w (lvA kp (pa.getD p []) as) + 40 * 0 + 0 ≤ 20 * (2 * lv + 3 + cA sy as)
    omega
  | case6 u ps vis ih =>
    intro h z lv hlv
    have i1 := ih h.2 z (lv + 1) (by omega)
    have i1' : wtS w (lvQ kp pa ps 1) + 40 * (dsQ ps 1).length + 0 ≤ _ := i1
    show wtS w (lvQ kp pa ps 1) + 40 * (dsQ ps 1).length + K ≤ 20 * (2 * lv + 4 + cQ sy ps 1 (lv + 1))
    omega
  | case7 u s e1 e2 p vis ih =>
    intro h z lv hlv
    have i1 := ih h.2.2.2 z.2.2 (lv + 1) (by omega)
    have q1 := (prE P 8 e1 h.2.1).1
    have q2 := (prE P 8 e2 h.2.2.1).1
    have n1 : 1 ≤ ncs sy s := nc_1 _
    show wtS w (lvE kp e1 ++ lvE kp e2 ++ lvQ kp pa p 0) + 40 * ((dsQ p 0).length + 1) + K ≤ 20 * (2 * lv + 8 + ncs sy s + cE sy e1 + cE sy e2 + cQ sy p 0 (lv + 1))
    rw [wtS_app, wtS_app]
    omega
  | case8 u z0 ps vis ih => exact fun h z => z.elim
  | case9 u z0 ps vis ih => exact fun h z => z.elim
  | case10 u s b m p vis ih => exact fun h z => z.elim
  | case11 u gs vis ih =>
    intro h z lv hlv
    have i1 := ih h.2 z lv hlv
    have i1' : wtS w (lvQ kp pa gs 2) + 40 * (dsQ gs 2).length + 0 ≤ _ := i1
    show wtS w (lvQ kp pa gs 2) + 40 * (dsQ gs 2).length + K ≤ 20 * (2 * lv + 3 + cQ sy gs 2 lv)
    omega
  | case12 u e p vis ih =>
    intro h z lv hlv
    have i1 := ih h.2.2 z.2 (lv + 1) (by omega)
    have q1 := (prE P 8 e h.2.1).1
    show wtS w (lvE kp e ++ lvQ kp pa p 0) + 40 * (dsQ p 0).length + K ≤ 20 * (2 * lv + 6 + cE sy e + cQ sy p 0 (lv + 1))
    rw [wtS_app]
    omega
  | case13 u gs vis ih =>
    intro h z lv hlv
    have i1 := ih h.2.2 z lv hlv
    have i1' : wtS w (lvQ kp pa gs 3) + 40 * (dsQ gs 3).length + 0 ≤ _ := i1
    show wtS w (lvQ kp pa gs 3) + 40 * (dsQ gs 3).length + K ≤ 20 * (2 * lv + 4 + cQ sy gs 3 lv)
    omega
  | case14 u vis =>
    intro h z lv hlv
    show 0 + 40 * 0 + K ≤ 20 * (2 * lv + 5)
    omega
  | case15 u vis =>
    intro h z lv hlv
    show 0 + 40 * 0 + K ≤ 20 * (2 * lv + 5)
    omega
  | case16 vis =>
    intro h z lv hlv
    exact Nat.zero_le _
  | case17 p ps vis ih1 ih2 =>
    intro h z lv hlv
    have i1 := ih1 h.1 z.1 lv hlv
    have i2 := ih2 h.2 z.2 lv hlv
    have i2' : wtS w (lvQ kp pa ps 1) + 40 * (dsQ ps 1).length + 0 ≤ _ := i2
    show wtS w (lvQ kp pa p 0 ++ lvQ kp pa ps 1) + 40 * (dsQ p 0 ++ dsQ ps 1).length + 0 ≤ 20 * (cQ sy p 0 lv + cQ sy ps 1 lv)
    rw [wtS_app, List.length_append]
    omega
  | case18 vis =>
    intro h z lv hlv
    exact Nat.zero_le _
  | case19 e p gs vis ih1 ih2 =>
    intro h z lv hlv
    have i1 := ih1 h.2.1 z.2.1 (lv + 2) (by omega)
    have i2 := ih2 h.2.2 z.2.2 lv hlv
    have q1 := (prE P 8 e h.1).1
    have i2' : wtS w (lvQ kp pa gs 2) + 40 * (dsQ gs 2).length + 0 ≤ _ := i2
    show wtS w (lvE kp e ++ lvQ kp pa p 0 ++ lvQ kp pa gs 2) + 40 * (dsQ p 0 ++ dsQ gs 2).length + 0 ≤ 20 * (2 * lv + 3 + cE sy e + cQ sy p 0 (lv + 2) + cQ sy gs 2 lv)
    rw [wtS_app, wtS_app, List.length_append]
    omega
  | case20 vis =>
    intro h z lv hlv
    exact Nat.zero_le _
  | case21 u e c v p gs vis ih1 ih2 =>
    intro h z lv hlv
    have i1 := ih1 h.2.2.2.1 z.2.2.2.1 (lv + 2) (by omega)
    have i2 := ih2 h.2.2.2.2 z.2.2.2.2 lv hlv
    have i2' : wtS w (lvQ kp pa gs 3) + 40 * (dsQ gs 3).length + 0 ≤ _ := i2
    have ge : wtS w (lvE kp e) ≤ 20 * (if e = .null then 0 else cE sy e + 1) + oE := by
      rcases h.2.1 with rfl | he
      · exact Nat.zero_le _
      · have q1 := (prE P 8 e he).1
        rw [if_neg (shE_nn he)]
        omega
    have gc : wtS w (lvE kp c) + wtS w (lvE kp v) ≤ 20 * (if c = .null then 4 else cE sy c + 1 + cE sy v) + 2 * o := by
      rcases h.2.2.1 with ⟨rfl, rfl⟩ | ⟨t1, t2, t3, t4⟩
      · exact Nat.zero_le _
      · have q1 := (prE P 8 c t2).2 (thI_op t1)
        have q2 := (prE P 8 v t4).2 (thI_op t3)
        rw [if_neg (thI_nn t1)]
        omega
    show wtS w (lvE kp e ++ (lvE kp c ++ lvE kp v) ++ lvQ kp pa p 0 ++ lvQ kp pa gs 3) + 40 * (dsQ p 0 ++ dsQ gs 3).length + 0 ≤ 20 * (2 * lv + 3 + ((if e = .null then 0 else cE sy e + 1) + if c = .null then 4 else cE sy c + 1 + cE sy v) + cQ sy p 0 (lv + 2) + cQ sy gs 3 lv)
    rw [wtS_app, wtS_app, wtS_app, wtS_app, List.length_append]
    omega
  | case22 A md vis h1 h2 h3 h4 h5 h6 h7 h8 h9 h10 h11 h12 h13 h14 h15 h16 h17 h18 h19 h20 h21 =>
    intro h
    unfold rdQ at h
    split at h
    · exact (h1 _ _ _ _ rfl rfl).elim
    · exact (h2 _ _ _ rfl rfl).elim
    · exact (h3 _ _ _ rfl rfl).elim
    · exact (h4 _ _ _ rfl rfl).elim
    · exact (h5 _ _ _ rfl rfl).elim
    · exact (h6 _ _ rfl rfl).elim
    · exact (h7 _ _ _ _ _ rfl rfl).elim
    · exact (h8 _ _ _ rfl rfl).elim
    · exact (h9 _ _ _ rfl rfl).elim
    · exact (h10 _ _ _ _ _ rfl rfl).elim
    · exact (h11 _ _ rfl rfl).elim
    · exact (h12 _ _ _ rfl rfl).elim
    · exact (h13 _ _ rfl rfl).elim
    · exact (h14 _ rfl rfl).elim
    · exact (h15 _ rfl rfl).elim
    · exact (h16 rfl rfl).elim
    · exact (h17 _ _ rfl rfl).elim
    · exact (h18 rfl rfl).elim
    · exact (h19 _ _ _ rfl rfl).elim
    · exact (h20 rfl rfl).elim
    · exact (h21 _ _ _ _ _ _ rfl rfl).elim
    · exact h.elim
end
