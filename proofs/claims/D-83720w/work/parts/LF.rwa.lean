/-! rows: what the two programs need -/
section
variable {kp : Nat → Bool} {fl : Bool} {sy : List Sym} {pz : List (Nat × Nat)} {pb : Nat → Nat} {pa : List (List Nat)}
/-- THE COMPONENT'S ROWS ARE ENOUGH -/
theorem y_20000 {A : Tm} {vis AL : List Nat} {lv : Nat} {r : Nv} (hk : ∀ s, srO sy s = 11 → kp s = false) (hpa : ∀ p, (pa.getD p []).length ≤ 6) (R : rdQ sy A 0 vis) (hA : arL sy vis AL) (hc : cQ sy A 0 lv + 2 * AL.length ≤ 3001) (hm : 4 + (mz sy pz A 0).1 + (mz sy pz A 0).2 ≤ 4000) : yP kp fl sy pb pa A 0 r ≤ 20000 := by
  have I : ivZ [] 1 0 := ⟨fun _ => Nat.le_refl 1, Nat.le_refl 0⟩
  have g := gen (pz := pz) (fl := fl) (pb := pb) hk hpa A 0 vis R lv 0 0 1 4000 0 r [] AL hm (Or.inl ⟨rfl, by omega, rfl, Nat.le_refl _⟩) (by omega) (by omega) I (by omega) (by omega) hA
  have e : wP kp fl sy pb pa A 0 r [] = yP kp fl sy pb pa A 0 r := rfl
  rw [e] at g
  have K0 : kK 20 0 false = 20 := rfl
  have S0 : sD 0 = 96 := rfl
  rcases g with g | ⟨Q, q1, q2, q3⟩
  · omega
  · omega
/-! keys of all processes, for the twin -/
def v8 (S : List Nv) : Prop := ∀ s, fk (vQ s) S ≤ 8
theorem v8.xp {S : List Nv} {s b m : Nat} (h : v8 S) (hm : m ≤ 8) : v8 (xp s b m S) := by
  intro s0
  by_cases e : s0 = s
  · rw [e]
    have h1 := vQ_eq (s := s) (b := b) (m := m) (S := S)
    have h2 : m * fk vU S ≤ m * 1 := Nat.mul_le_mul_left _ (vU_le S)
    omega
  · exact Nat.le_trans (vQ_ne e) (h s0)
theorem v8_1 (r : Nv) : v8 [r] := fun _ => by
  show 1 ≤ 8
  decide
theorem fk_1 {S : List Nv} (k : Ky) (m : Nat) : fk (fun _ => [(k, m)]) S ≤ 1 := by
  refine Nat.le_trans (nk_le (F := [(k, m)]) (fun q hq => ?_)) (Nat.le_refl 1)
  obtain ⟨r, h1, h2⟩ := kys_fm.mp hq
  exact h2
theorem pl_ev1 {S : List Nv} : ∀ e, plC sy e = true → fk (fun r => evE kp sy r e) S ≤ 1 := by
  intro e
  induction e using plC.induct with
  | case1 v => intro _; exact Nat.le_trans (Nat.le_of_eq (fk_nil S)) (Nat.zero_le _)
  | case2 s =>
    intro _
    show fk (fun _ => if kp s then [((s, arrS (srO sy s), 0), 1)] else []) S ≤ 1
    cases kp s with
    | true => exact fk_1 _ _
    | false => exact Nat.le_trans (Nat.le_of_eq (fk_nil S)) (Nat.zero_le _)
  | case3 e ih => exact fun h => ih h
  | case4 e h1 h2 h3 =>
    intro h
    unfold plC at h
    split at h
    · exact (h1 _ rfl).elim
    · exact (h2 _ rfl).elim
    · exact (h3 _ rfl).elim
    · cases h
theorem nu_ev {r : Nv} : ∀ e, nuE e = true → evE kp sy r e = [] := by
  intro e
  induction e using nuE.induct with
  | case1 v => exact fun _ => rfl
  | case2 e ih => exact fun h => ih h
  | case3 e h1 h2 =>
    intro h
    unfold nuE at h
    split at h
    · exact (h1 _ rfl).elim
    · exact (h2 _ rfl).elim
    · cases h
theorem fx_ev1 {S : List Nv} : ∀ e, fixE sy e = true → fk (fun r => evE kp sy r e) S ≤ 1 := by
  intro e
  induction e using fixE.induct with
  | case1 e ih => exact fun h => ih h
  | case2 o x y =>
    intro h
    have h' : ((o == 43 || o == 45) && plC sy x && nuE y) = true := h
    rw [Bool.and_eq_true, Bool.and_eq_true] at h'
    have e2 : (fun r : Nv => evE kp sy r (.add (.index o) (.sub x y))) = fun r => evE kp sy r x := by
      funext r
      show evE kp sy r x ++ evE kp sy r y = evE kp sy r x
      rw [nu_ev y h'.2, List.append_nil]
    rw [e2]
    exact pl_ev1 x h'.1.2
  | case3 v => intro _; exact Nat.le_trans (Nat.le_of_eq (fk_nil S)) (Nat.zero_le _)
  | case4 s => intro h; exact pl_ev1 (.arg s) h
  | case5 e h1 h2 h3 h4 =>
    intro h
    unfold fixE at h
    split at h
    · exact (h1 _ rfl).elim
    · exact (h2 _ _ _ rfl).elim
    · exact (h3 _ rfl).elim
    · exact (h4 _ rfl).elim
    · cases h
theorem el_8 {S : List Nv} {s m : Nat} {e : Tm} (h : v8 S) (hi : 4 * fk (fun r => evE kp sy r e) S ≤ 9 * cE sy e) : 4 * fk (fun r => evE kp sy r e ++ [(kyT sy r (.elem (.arg s) e), m)]) S ≤ 9 * (ncs sy s + 2 + cE sy e) := by
  have n1 : 1 ≤ ncs sy s := nc_1 _
  have a1 := fk_app (fun r => evE kp sy r e) (fun r => [(kyT sy r (.elem (.arg s) e), m)]) S
  cases hf : fixE sy e with
  | true =>
    have b1 := fx_ev1 (kp := kp) (S := S) e hf
    have b2 := cE_1 hf
    have e2 : (fun r : Nv => [(kyT sy r (.elem (.arg s) e), m)]) = fun r => [(((s, false, cstE r e) : Ky), m)] := by
      funext r
      show [((s, !(fixE sy e), if fixE sy e = true then cstE r e else 0), m)] = _
      rw [hf]; rfl
    obtain ⟨x, g, k⟩ := fix_dep e hf
    have b3 : fk (fun r => [(((s, false, cstE r e) : Ky), m)]) S ≤ fk (vQ x) S := fk_fac (q := fun r => (0, false, r x)) (q' := fun r => (s, false, cstE r e)) (fun y => (s, false, g y.2.2)) (fun r => by rw [k r])
    have b4 := h x
    rw [e2] at a1
    exact Nat.le_trans (Nat.mul_le_mul_left 4 (Nat.le_trans a1 (Nat.add_le_add b1 (Nat.le_trans b3 b4)))) (by omega)
  | false =>
    have e2 : (fun r : Nv => [(kyT sy r (.elem (.arg s) e), m)]) = fun _ => [(((s, true, 0) : Ky), m)] := by
      funext r
      show [((s, !(fixE sy e), if fixE sy e = true then cstE r e else 0), m)] = _
      rw [hf]; rfl
    have b3 := fk_1 (S := S) (s, true, 0) m
    rw [e2] at a1
    omega
theorem n9E {S : List Nv} (h : v8 S) : ∀ e, 4 * fk (fun r => evE kp sy r e) S ≤ 9 * cE sy e := by
  intro e
  induction e using cE.induct with
  | case1 v =>
    have : fk (fun r => evE kp sy r (.int v)) S = 0 := fk_nil S
    omega
  | case2 s =>
    have n1 : 1 ≤ ncs sy s := nc_1 _
    have b : fk (fun r => evE kp sy r (.arg s)) S ≤ 1 := by
      show fk (fun _ => if kp s then [((s, arrS (srO sy s), 0), 1)] else []) S ≤ 1
      cases kp s with
      | true => exact fk_1 _ _
      | false => exact Nat.le_trans (Nat.le_of_eq (fk_nil S)) (Nat.zero_le _)
    show _ ≤ 9 * ncs sy s
    omega
  | case3 s e ih => exact el_8 h ih
  | case4 e ih => show 4 * fk (fun r => evE kp sy r e) S ≤ 9 * (1 + cE sy e); omega
  | case5 e ih => show 4 * fk (fun r => evE kp sy r e) S ≤ 9 * (3 + cE sy e); omega
  | case6 e ih => show 4 * fk (fun r => evE kp sy r e) S ≤ 9 * (2 + cE sy e); omega
  | case7 o x y ih1 ih2 =>
    have a1 := fk_app (fun r => evE kp sy r x) (fun r => evE kp sy r y) S
    show 4 * fk (fun r => evE kp sy r x ++ evE kp sy r y) S ≤ 9 * (cE sy x + cE sy y + if o = 65 ∨ o = 79 then 2 else 1)
    omega
  | case8 e h0 h1 h2 h3 h4 h5 h6 =>
    have : (fun r : Nv => evE kp sy r e) = fun _ => [] := by
      funext r
      unfold evE
      split
      · exact (h1 _ rfl).elim
      · exact (h2 _ _ rfl).elim
      · exact (h3 _ rfl).elim
      · exact (h4 _ rfl).elim
      · exact (h5 _ rfl).elim
      · exact (h6 _ _ _ rfl).elim
      · rfl
    rw [this, fk_nil]
    exact Nat.zero_le _
theorem n9T {S : List Nv} (h : v8 S) (m : Nat) : ∀ t, 4 * fk (fun r => evT kp sy r m t) S ≤ 9 * cE sy t := by
  intro t
  by_cases c1 : ∃ s, t = .arg s
  · obtain ⟨s, rfl⟩ := c1
    have n1 : 1 ≤ ncs sy s := nc_1 _
    have b : fk (fun r => evT kp sy r m (.arg s)) S ≤ 1 := by
      show fk (fun _ => if kp s then [((s, arrS (srO sy s), 0), m)] else []) S ≤ 1
      cases kp s with
      | true => exact fk_1 _ _
      | false => exact Nat.le_trans (Nat.le_of_eq (fk_nil S)) (Nat.zero_le _)
    show _ ≤ 9 * ncs sy s
    omega
  by_cases c2 : ∃ s e, t = .elem (.arg s) e
  · obtain ⟨s, e, rfl⟩ := c2
    exact el_8 h (n9E h e)
  · have : (fun r : Nv => evT kp sy r m t) = fun _ => [] := by
      funext r
      unfold evT
      split
      · exact (c1 ⟨_, rfl⟩).elim
      · exact (c2 ⟨_, _, rfl⟩).elim
      · rfl
    rw [this, fk_nil]
    exact Nat.zero_le _
theorem n9A {S : List Nv} (h : v8 S) : ∀ (qs : List Nat) (as : Tm), 4 * fk (fun r => evA kp sy pb r qs as) S ≤ 9 * cA sy as := by
  intro qs as
  induction qs, as using lvA.induct with
  | case1 q qs a as ih =>
    have a1 := fk_app (fun r => if srO sy q = 3 then evE kp sy r a else evT kp sy r (pb q) a) (fun r => evA kp sy pb r qs as) S
    have h3 := n9E (kp := kp) (sy := sy) h a
    have h4 := n9T (kp := kp) (sy := sy) h (pb q) a
    show 4 * fk (fun r => (if srO sy q = 3 then evE kp sy r a else evT kp sy r (pb q) a) ++ evA kp sy pb r qs as) S ≤ 9 * (cE sy a + 1 + cA sy as)
    by_cases hq : srO sy q = 3
    · simp only [if_pos hq] at a1 ⊢
      omega
    · simp only [if_neg hq] at a1 ⊢
      omega
  | case2 qs as h1 =>
    have : (fun r : Nv => evA kp sy pb r qs as) = fun _ => [] := by
      funext r
      unfold evA
      split
      · exact (h1 _ _ _ _ rfl rfl).elim
      · rfl
    rw [this, fk_nil]
    exact Nat.zero_le _
theorem n9 : ∀ (A : Tm) (md : Nat) (vis : List Nat), rdQ sy A md vis → ∀ lv S, v8 S → 4 * fk (evP kp fl sy pb pa A md) S ≤ 9 * cQ sy A md lv := by
  intro A md vis
  induction A, md, vis using rdQ.induct with
  | case1 u s c p vis ih =>
    intro h lv S hS
    have i1 := ih h.2 lv S hS
    have i2 : fk (evP kp fl sy pb pa (.div (.index u) (.rem (.elem (.index s) (.index c)) p)) 0) S ≤ fk (evP kp fl sy pb pa p 0) S := fk_mo (fun r k hk => by
      have hk' : k ∈ kys (if fl then flN (fun t => decide (t < s) || decide (s + c ≤ t)) (evP kp fl sy pb pa p 0 r) else evP kp fl sy pb pa p 0 r) := hk
      split at hk'
      · exact ((flN_k _ _ _).mp hk').1
      · exact hk')
    show _ ≤ 9 * (2 * lv + 4 + (if 0 < szO sy s then 3 else 0) + cN sy s c + cQ sy p 0 lv)
    omega
  | case2 u v e vis =>
    intro h lv S hS
    have a1 := fk_app (fun r => evE kp sy r e) (fun r => evT kp sy r 2 v) S
    have a2 := n9E (kp := kp) (sy := sy) hS e
    have a3 := n9T (kp := kp) (sy := sy) hS 2 v
    show 4 * fk (fun r => evE kp sy r e ++ evT kp sy r 2 v) S ≤ 9 * (2 * lv + 3 + cE sy v + cE sy e)
    omega
  | case3 u v e vis =>
    intro h lv S hS
    have a1 := fk_app (fun r => evE kp sy r e) (fun r => evT kp sy r 4 v) S
    have a2 := n9E (kp := kp) (sy := sy) hS e
    have a3 := n9T (kp := kp) (sy := sy) hS 4 v
    show 4 * fk (fun r => evE kp sy r e ++ evT kp sy r 4 v) S ≤ 9 * (2 * lv + 2 + cE sy v + cE sy e)
    omega
  | case4 u v e vis =>
    intro h lv S hS
    have a1 := fk_app (fun r => evT kp sy r 8 v) (fun r => evT kp sy r 2 e) S
    have a2 := n9T (kp := kp) (sy := sy) hS 8 v
    have a3 := n9T (kp := kp) (sy := sy) hS 2 e
    show 4 * fk (fun r => evT kp sy r 8 v ++ evT kp sy r 2 e) S ≤ 9 * (2 * lv + 2 + cE sy v + cE sy e)
    omega
  | case5 u p as vis =>
    intro h lv S hS
    have a2 := n9A (kp := kp) (sy := sy) (pb := pb) hS (pa.getD p []) as
    show 4 * fk (fun r => evA kp sy pb r (pa.getD p []) as) S ≤ 9 * (2 * lv + 3 + cA sy as)
    omega
  | case6 u ps vis ih =>
    intro h lv S hS
    have i1 := ih h.2 (lv + 1) S hS
    show 4 * fk (evP kp fl sy pb pa ps 1) S ≤ 9 * (2 * lv + 4 + cQ sy ps 1 (lv + 1))
    omega
  | case7 u s e1 e2 p vis ih =>
    intro h lv S hS
    have i1 := ih h.2.2.2 (lv + 1) S hS
    have a1 := fk_app (fun r => evE kp sy r e1 ++ evE kp sy r e2) (evP kp fl sy pb pa p 0) S
    have a2 := fk_app (fun r => evE kp sy r e1) (fun r => evE kp sy r e2) S
    have a3 := n9E (kp := kp) (sy := sy) hS e1
    have a4 := n9E (kp := kp) (sy := sy) hS e2
    show 4 * fk (fun r => evE kp sy r e1 ++ evE kp sy r e2 ++ evP kp fl sy pb pa p 0 r) S ≤ 9 * (2 * lv + 8 + ncs sy s + cE sy e1 + cE sy e2 + cQ sy p 0 (lv + 1))
    omega
  | case8 u z0 ps vis ih =>
    intro h lv S hS
    have i1 := ih h.2 (lv + 1) S hS
    show 4 * fk (evP kp fl sy pb pa ps 1) S ≤ 9 * (2 * lv + 4 + cQ sy ps 1 (lv + 1))
    omega
  | case9 u z0 ps vis ih =>
    intro h lv S hS
    have i1 := ih h.2 (lv + 1) S hS
    show 4 * fk (evP kp fl sy pb pa ps 1) S ≤ 9 * (2 * lv + 7 + cQ sy ps 1 (lv + 1))
    omega
  | case10 u s b m p vis ih =>
    intro h lv S hS
    have i1 := ih h.2.2.2 (lv + 1) (xp s b m S) (hS.xp h.2.2.1)
    have a1 := fk_loop (F := evP kp fl sy pb pa p 0) (s := s) (b := b) (m := m) (S := S)
    show 4 * fk (fun r => catN (fun k => evP kp fl sy pb pa p 0 (upE r s (nI (b + k)))) m) S ≤ 9 * (2 * lv + 10 + ncs sy s + cQ sy p 0 (lv + 1))
    omega
  | case11 u gs vis ih =>
    intro h lv S hS
    have i1 := ih h.2 lv S hS
    show 4 * fk (evP kp fl sy pb pa gs 2) S ≤ 9 * (2 * lv + 3 + cQ sy gs 2 lv)
    omega
  | case12 u e p vis ih =>
    intro h lv S hS
    have i1 := ih h.2.2 (lv + 1) S hS
    have a1 := fk_app (fun r => evE kp sy r e) (evP kp fl sy pb pa p 0) S
    have a3 := n9E (kp := kp) (sy := sy) hS e
    show 4 * fk (fun r => evE kp sy r e ++ evP kp fl sy pb pa p 0 r) S ≤ 9 * (2 * lv + 6 + cE sy e + cQ sy p 0 (lv + 1))
    omega
  | case13 u gs vis ih =>
    intro h lv S hS
    have i1 := ih h.2.2 lv S hS
    show 4 * fk (evP kp fl sy pb pa gs 3) S ≤ 9 * (2 * lv + 4 + cQ sy gs 3 lv)
    omega
  | case14 u vis =>
    intro h lv S hS
    show 4 * fk (fun _ => []) S ≤ _
    rw [fk_nil]; exact Nat.zero_le _
  | case15 u vis =>
    intro h lv S hS
    show 4 * fk (fun _ => []) S ≤ _
    rw [fk_nil]; exact Nat.zero_le _
  | case16 vis =>
    intro h lv S hS
    show 4 * fk (fun _ => []) S ≤ _
    rw [fk_nil]; exact Nat.zero_le _
  | case17 p ps vis ih1 ih2 =>
    intro h lv S hS
    have i1 := ih1 h.1 lv S hS
    have i2 := ih2 h.2 lv S hS
    have a1 := fk_app (evP kp fl sy pb pa p 0) (evP kp fl sy pb pa ps 1) S
    show 4 * fk (fun r => evP kp fl sy pb pa p 0 r ++ evP kp fl sy pb pa ps 1 r) S ≤ 9 * (cQ sy p 0 lv + cQ sy ps 1 lv)
    omega
  | case18 vis =>
    intro h lv S hS
    show 4 * fk (fun _ => []) S ≤ _
    rw [fk_nil]; exact Nat.zero_le _
  | case19 e p gs vis ih1 ih2 =>
    intro h lv S hS
    have i1 := ih1 h.2.1 (lv + 2) S hS
    have i2 := ih2 h.2.2 lv S hS
    have a1 := fk_app (fun r => evE kp sy r e ++ evP kp fl sy pb pa p 0 r) (evP kp fl sy pb pa gs 2) S
    have a2 := fk_app (fun r => evE kp sy r e) (evP kp fl sy pb pa p 0) S
    have a3 := n9E (kp := kp) (sy := sy) hS e
    show 4 * fk (fun r => evE kp sy r e ++ evP kp fl sy pb pa p 0 r ++ evP kp fl sy pb pa gs 2 r) S ≤ 9 * (2 * lv + 3 + cE sy e + cQ sy p 0 (lv + 2) + cQ sy gs 2 lv)
    omega
  | case20 vis =>
    intro h lv S hS
    show 4 * fk (fun _ => []) S ≤ _
    rw [fk_nil]; exact Nat.zero_le _
  | case21 u e c v p gs vis ih1 ih2 =>
    intro h lv S hS
    have i1 := ih1 h.2.2.2.1 (lv + 2) S hS
    have i2 := ih2 h.2.2.2.2 lv S hS
    have a1 := fk_app (fun r => evE kp sy r e ++ (evT kp sy r 8 c ++ evT kp sy r 2 v) ++ evP kp fl sy pb pa p 0 r) (evP kp fl sy pb pa gs 3) S
    have a2 := fk_app (fun r => evE kp sy r e ++ (evT kp sy r 8 c ++ evT kp sy r 2 v)) (evP kp fl sy pb pa p 0) S
    have a3 := fk_app (fun r => evE kp sy r e) (fun r => evT kp sy r 8 c ++ evT kp sy r 2 v) S
    have a4 := fk_app (fun r => evT kp sy r 8 c) (fun r => evT kp sy r 2 v) S
    have a5 := n9E (kp := kp) (sy := sy) hS e
    have a6 := n9T (kp := kp) (sy := sy) hS 8 c
    have a7 := n9T (kp := kp) (sy := sy) hS 2 v
    have ge : cE sy e ≤ if e = .null then 0 else cE sy e + 1 := by
      by_cases q : e = .null
      · rw [if_pos q, q]; exact Nat.le_refl _
      · rw [if_neg q]; omega
    have gc : cE sy c + cE sy v ≤ if c = .null then 4 else cE sy c + 1 + cE sy v := by
      rcases h.2.2.1 with ⟨rfl, rfl⟩ | ⟨t1, t2, t3, t4⟩
      · exact Nat.zero_le _
      · rw [if_neg (thI_nn t1)]; omega
    show 4 * fk (fun r => evE kp sy r e ++ (evT kp sy r 8 c ++ evT kp sy r 2 v) ++ evP kp fl sy pb pa p 0 r ++ evP kp fl sy pb pa gs 3 r) S ≤ 9 * (2 * lv + 3 + ((if e = .null then 0 else cE sy e + 1) + if c = .null then 4 else cE sy c + 1 + cE sy v) + cQ sy p 0 (lv + 2) + cQ sy gs 3 lv)
    omega
  | case22 A md vis h1 h2 h3 h4 h5 h6 h7 h8 h9 h10 h11 h12 h13 h14 h15 h16 h17 h18 h19 h20 h21 =>
    intro h
    unfold rdQ at h
    split at h
    · exact (h1 _ _ _ _ rfl rfl).elim
    · exact (h2 _ _ _ rfl rfl).elim
    · exact (h3 _ _ _ rfl rfl).elim
    · exact (h4 _ _ _ rfl rfl).elim
    · exact (h5 _ _ _ rfl rfl).elim
    · exact (h6 _ _ rfl rfl).elim
    · exact (h7 _ _ _ _ _ rfl rfl).elim
    · exact (h8 _ _ _ rfl rfl).elim
    · exact (h9 _ _ _ rfl rfl).elim
    · exact (h10 _ _ _ _ _ rfl rfl).elim
    · exact (h11 _ _ rfl rfl).elim
    · exact (h12 _ _ _ rfl rfl).elim
    · exact (h13 _ _ rfl rfl).elim
    · exact (h14 _ rfl rfl).elim
    · exact (h15 _ rfl rfl).elim
    · exact (h16 rfl rfl).elim
    · exact (h17 _ _ rfl rfl).elim
    · exact (h18 rfl rfl).elim
    · exact (h19 _ _ _ rfl rfl).elim
    · exact (h20 rfl rfl).elim
    · exact (h21 _ _ _ _ _ _ rfl rfl).elim
    · exact h.elim
theorem nk_9 {A : Tm} {md lv : Nat} {vis : List Nat} {r : Nv} (R : rdQ sy A md vis) : 4 * nk (evP kp fl sy pb pa A md r) ≤ 9 * cQ sy A md lv := by
  have h := n9 (kp := kp) (fl := fl) (pb := pb) (pa := pa) A md vis R lv [r] (v8_1 r)
  have e : fk (evP kp fl sy pb pa A md) [r] = nk (evP kp fl sy pb pa A md r) := by
    show nk (evP kp fl sy pb pa A md r ++ []) = _
    rw [List.append_nil]
  rw [e] at h
  exact h
end
