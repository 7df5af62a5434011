/-! (S): processes: PAR FOR; all of them -/
section
variable {C : Cx} {M : Nat} {E : En} {pe : Nat → Nat} {sy : List Sym} {pz : List (Nat × Nat)} {pa : List (List Nat)} {pb : Nat → Nat} {kp : Nat → Bool} {fl mk : Bool} {lk : List (Nat × Nat)} {wh : Option Nat} {T : Nat}
theorem stB_rg {F : Nat → Br} {x : Nat} : ∀ m, stB x ((List.range m).map F) = catN (fun k => [iB 4 (F k).2.1 (x + 4 * k + 2), iO 13, iV 1 (-(nI (F k).1)), iO (if (F k).2.2.1 = 0 then 16 else 15)]) m := by
  intro m
  induction m with
  | zero => rfl
  | succ m ih =>
    rw [List.range_succ, List.map_append, List.map_cons, List.map_nil, stB_ap, ih, List.length_map, List.length_range]
    rfl
theorem tq_parf {u s bb m : Nat} {p : Tm} (ip : tq0 C M E pe sy pz pa pb kp fl mk lk wh T p) : tq0 C M E pe sy pz pa pb kp fl mk lk wh T (.div (.index u) (.rem (.index s) (.elem (.elem (.index bb) (.index m)) p))) := by
  intro l vis lo hi rh D lv q r a z h Y hY hc hg
  obtain ⟨⟨s1, s2, s11, sb, m1, m8, l1, wp⟩, v1, v2, v3, v4, cx, cr, hx, hy, h5, ho, hT⟩ := h
  rw [kP] at hc
  rw [nQ] at hg hT
  rw [evP] at cr
  rw [offP] at ho
  rw [mz] at hx hy
  have hx : q + 3 ≤ (zI z).2 := hx
  have hy : 3 + m * (1 + (mz sy pz p 0).1 + (mz sy pz p 0).2 + 3) + 3 ≤ (zI z).1 := hy
  have eb : blk sy pz p = 1 + (mz sy pz p 0).1 + (mz sy pz p 0).2 + 3 := rfl
  rw [← eb] at hy
  obtain ⟨o1, o2⟩ := off_app ho
  have hcl : clB (mkF mk s) [] (catN (fun k => [evP kp fl sy pb pa p 0 (upE r s (nI (bb + k)))]) m) = false := by
    cases c : clB (mkF mk s) [] (catN (fun k => [evP kp fl sy pb pa p 0 (upE r s (nI (bb + k)))]) m) with
    | false => rfl
    | true => rw [c] at o2; exact nomatch o2
  have np := cat1_pw (R := fun F F' => cls (mkF mk s) F' F = false) m (clB_pw _ _ hcl).2
  have cx1 := ctx_11 cx s11
  have cr1 : crt sy (s :: vis) (wdO rh D) z (catN (fun k => evP kp fl sy pb pa p 0 (upE r s (nI (bb + k)))) m) := crt_cx cr (fun _ _ => rfl) (fun t ht => by
    rcases List.mem_cons.mp ht with y | y
    · subst y; exact Or.inr (Or.inr s11)
    · exact Or.inl y)
  have kb : ∀ i j, i < j → (i + 1) * blk sy pz p ≤ j * blk sy pz p := fun i j hij => Nat.mul_le_mul_right _ hij
  have ks : ∀ i, (i + 1) * blk sy pz p = i * blk sy pz p + blk sy pz p := fun i => Nat.succ_mul i _
  have nk : ∀ k, k < m → (k + 1) * (nQ sy pa p 0 + 2) ≤ m * (nQ sy pa p 0 + 2) := fun k hk => Nat.mul_le_mul_right _ hk
  have nks : ∀ k, (k + 1) * (nQ sy pa p 0 + 2) = k * (nQ sy pa p 0 + 2) + (nQ sy pa p 0 + 2) := fun k => Nat.succ_mul k _
  have mx := fun k => mOK_ex sy (s :: vis) (wdO rh D) (evP kp fl sy pb pa p 0 (upE r s (nI (bb + k))))
  have hc' := hc
  have lb : (catN (fun k => hB1 (a + 7 + 4 * k) (a + 8 + 4 * m + k * (nQ sy pa p 0 + 2)) (3 + k * blk sy pz p + 1 + (mz sy pz p 0).1) 15) m).length = m * 4 := catN_len m (fun _ _ => rfl)
  rw [cod_app, List.length_append, lb] at hc'
  have c3 := hc'.2.2
  have lh : (hdQ a q m (a + 8 + 4 * m + m * (nQ sy pa p 0 + 2))).length = 7 := rfl
  rw [lh, show a + (7 + m * 4) + 1 = a + 8 + 4 * m by omega] at c3
  have cb := cat_cod (n := nQ sy pa p 0 + 2) m (fun k _ => by rw [List.length_append, kP_len]; rfl) c3
  have br : ∀ k, k < m → gfX C M E Y (a + 8 + 4 * m + k * (nQ sy pa p 0 + 2)) (bZ0 z q (3 + k * blk sy pz p + 1 + (mz sy pz p 0).1) ((mz sy pz p 0).2 + 3) (1 + (mz sy pz p 0).1) (Classical.choose (mx k)) (Classical.choose (Classical.choose_spec (mx k)))) := fun k hk => by
    have h1 := kb k m hk
    have h2 := ks k
    have h3 := nk k hk
    have h4 := nks k
    refine ty_br (l := l - 1) (lo := s + 1) (hi := hi) (vis := s :: vis) (rh := rh) (D := D) (lv := lv) (r := upE r s (nI (bb + k))) (st := 0) ip hY wp (fun t ht => ?_) v2 ⟨v3.1, fun t ht n1 n11 => ?_⟩ (by omega) cx1 hx (Classical.choose_spec (Classical.choose_spec (mx k))) (catN_nil m k hk o1) (by omega) (by omega) rfl rfl (by omega) (by omega) (cb k hk)
    · rcases List.mem_cons.mp ht with y | y
      · omega
      · have := v1 t y; omega
    · rcases List.mem_cons.mp ht with y | y
      · subst y; exact (n11 s11).elim
      · exact v3.2 t y n1 n11
  have stE : stB (a + 7) (((List.range m).map fun k => (((3 + k * blk sy pz p + 1 + (mz sy pz p 0).1, a + 8 + 4 * m + k * (nQ sy pa p 0 + 2), 1, bZ0 z q (3 + k * blk sy pz p + 1 + (mz sy pz p 0).1) ((mz sy pz p 0).2 + 3) (1 + (mz sy pz p 0).1) (Classical.choose (mx k)) (Classical.choose (Classical.choose_spec (mx k)))) : Br), evP kp fl sy pb pa p 0 (upE r s (nI (bb + k))))).map fun X => X.1) = catN (fun k => hB1 (a + 7 + 4 * k) (a + 8 + 4 * m + k * (nQ sy pa p 0 + 2)) (3 + k * blk sy pz p + 1 + (mz sy pz p 0).1) 15) m := by
    rw [List.map_map]
    exact stB_rg m
  refine par_fin (Bs := (List.range m).map fun k => (((3 + k * blk sy pz p + 1 + (mz sy pz p 0).1, a + 8 + 4 * m + k * (nQ sy pa p 0 + 2), 1, bZ0 z q (3 + k * blk sy pz p + 1 + (mz sy pz p 0).1) ((mz sy pz p 0).2 + 3) (1 + (mz sy pz p 0).1) (Classical.choose (mx k)) (Classical.choose (Classical.choose_spec (mx k)))) : Br), evP kp fl sy pb pa p 0 (upE r s (nI (bb + k))))) (b := 3) (vis := s :: vis) (beh := a + 8 + 4 * m + m * (nQ sy pa p 0 + 2)) hY cx1 cr1 hx (by rw [List.length_map, List.length_range]; omega) (fun X hX => ?_) ?_ ?_ (by rw [stE, List.length_map, List.length_range]; exact hc) (by rw [show a + 8 + 4 * m + m * (nQ sy pa p 0 + 2) = a + (8 + 4 * m + m * (nQ sy pa p 0 + 2)) by omega]; exact hg)
  · obtain ⟨k, hk, rfl⟩ := List.mem_map.mp hX
    rw [List.mem_range] at hk
    have h1 := kb k m hk
    have h2 := ks k
    exact ⟨⟨_, _, _, _, _, _, _, rfl, Classical.choose_spec (Classical.choose_spec (mx k)), by omega, by omega, by omega, by omega, by omega, by omega, br k hk⟩, fun e he => catN_mem m k hk he⟩
  · rw [List.pairwise_map]
    refine List.Pairwise.imp_of_mem (fun {i j} hi hj hij => ?_) (List.pairwise_lt_range (n := m))
    rw [List.mem_range] at hi hj
    have h1 := kb i j hij
    have h2 := ks i
    refine br_ap cx1.2.2.2.2.2.2.2.2.2.2.1 (Classical.choose_spec (Classical.choose_spec (mx i))) (Classical.choose_spec (Classical.choose_spec (mx j))) (fun e he e' he' hv n11 ht => ?_) (Or.inl (by omega))
    obtain ⟨t1, t2⟩ := mtK_sy ht
    have hv' : e.1.1 ∈ vis := by
      rcases List.mem_cons.mp hv with y | y
      · rw [y] at n11; exact (n11 s11).elim
      · exact y
    have h0 := np i j hij hj
    unfold cls at h0
    rw [List.any_eq_false] at h0
    have h3 := h0 e' he'
    rw [Bool.not_eq_true, List.any_eq_false] at h3
    have h4 := h3 e he
    have gv : mkF mk s e'.1.1 = true := by
      rw [← t2]
      exact mkF_v (lo := s) (fun t ht => by have := v1 t ht; omega) _ hv'
    rw [gv, t1, Bool.true_and, Bool.true_and, Bool.not_eq_true] at h4
    have := mcl_12 h4
    rw [Nat.and_comm e.2]
    exact this
  · exact ⟨_, List.mem_map.mpr ⟨0, List.mem_range.mpr (by omega), rfl⟩, (by decide : (1 : Nat) ≠ 0)⟩
/-- ALL PROCESSES are typed well -/
theorem tq_all (o : oneW E) (kc : ∀ s, sChn (srO sy s) = true → kp s = true) (pm : plm C T) (pr : prO C M E pe sy pz pa pb) : ∀ (A : Tm) (m : Nat), (m = 0 → tq0 C M E pe sy pz pa pb kp fl mk lk wh T A) ∧ (m = 1 → tq1 C M E pe sy pz pa pb kp fl mk lk wh T A) ∧ (m = 2 → tq2 C M E pe sy pz pa pb kp fl mk lk wh T A) ∧ (m = 3 → tq3 C M E pe sy pz pa pb kp fl mk lk wh T A) ∧ (m = 4 → tq4 C M E pe sy pz pa pb kp fl mk lk wh T A) := by
  have only0 : ∀ A, tq0 C M E pe sy pz pa pb kp fl mk lk wh T A → ((0 : Nat) = 0 → tq0 C M E pe sy pz pa pb kp fl mk lk wh T A) ∧ ((0 : Nat) = 1 → tq1 C M E pe sy pz pa pb kp fl mk lk wh T A) ∧ ((0 : Nat) = 2 → tq2 C M E pe sy pz pa pb kp fl mk lk wh T A) ∧ ((0 : Nat) = 3 → tq3 C M E pe sy pz pa pb kp fl mk lk wh T A) ∧ ((0 : Nat) = 4 → tq4 C M E pe sy pz pa pb kp fl mk lk wh T A) := fun A h => ⟨fun _ => h, fun y => absurd y (by decide), fun y => absurd y (by decide), fun y => absurd y (by decide), fun y => absurd y (by decide)⟩
  intro A m
  induction A, m using nQ.induct with
  | case1 u s c p ih => exact only0 _ (tq_decl (ih.1 rfl))
  | case2 u => exact only0 _ tq_stop
  | case3 u v e => exact only0 _ tq_asg
  | case4 u v e => exact only0 _ (tq_snd o kc)
  | case5 u v e => exact only0 _ (tq_tak o kc)
  | case6 u p as => exact only0 _ (tq_call pr kc)
  | case7 u ps ih => exact only0 _ (tq_seq (ih.2.1 rfl))
  | case8 u s e1 e2 p ih => exact only0 _ (tq_for (ih.1 rfl))
  | case9 u z ps ih => exact only0 _ (tq_par0 (Or.inl ⟨rfl, rfl⟩) (ih.2.2.2.2 rfl))
  | case10 u z ps ih => exact only0 _ (tq_par0 (Or.inr ⟨rfl, rfl⟩) (ih.2.2.2.2 rfl))
  | case11 u s b m p ih => exact only0 _ (tq_parf (ih.1 rfl))
  | case12 u gs ih => exact only0 _ (tq_if (ih.2.2.1 rfl))
  | case13 u e p ih => exact only0 _ (tq_while (ih.1 rfl))
  | case14 u gs ih => exact only0 _ (tq_alt o kc pm (ih.2.2.2.1 rfl))
  | case15 p ps i1 i2 => exact ⟨fun y => absurd y (by decide), fun _ => tq_row (i1.1 rfl) (i2.2.1 rfl), fun y => absurd y (by decide), fun y => absurd y (by decide), fun y => absurd y (by decide)⟩
  | case16 e p gs i1 i2 => exact ⟨fun y => absurd y (by decide), fun y => absurd y (by decide), fun _ => tq_ch (i1.1 rfl) (i2.2.2.1 rfl), fun y => absurd y (by decide), fun y => absurd y (by decide)⟩
  | case17 u e c v p gs i1 i2 => exact ⟨fun y => absurd y (by decide), fun y => absurd y (by decide), fun y => absurd y (by decide), fun _ => tq_g3 o (i1.1 rfl) (i2.2.2.2.1 rfl), fun y => absurd y (by decide)⟩
  | case18 p ps i1 i2 => exact ⟨fun y => absurd y (by decide), fun y => absurd y (by decide), fun y => absurd y (by decide), fun y => absurd y (by decide), fun _ => tq_br (i1.1 rfl) (i2.2.2.2.2 rfl)⟩
  | case19 A m h1 h2 h3 h4 h5 h6 h7 h8 h9 h10 h11 h12 h13 h14 h15 h16 h17 h18 =>
    have e1 : nQ sy pa A m = 0 := by
      unfold nQ
      split
      · exact (h1 _ _ _ _ rfl rfl).elim
      · exact (h2 _ rfl rfl).elim
      · exact (h3 _ _ _ rfl rfl).elim
      · exact (h4 _ _ _ rfl rfl).elim
      · exact (h5 _ _ _ rfl rfl).elim
      · exact (h6 _ _ _ rfl rfl).elim
      · exact (h7 _ _ rfl rfl).elim
      · exact (h8 _ _ _ _ _ rfl rfl).elim
      · exact (h9 _ _ _ rfl rfl).elim
      · exact (h10 _ _ _ rfl rfl).elim
      · exact (h11 _ _ _ _ _ rfl rfl).elim
      · exact (h12 _ _ rfl rfl).elim
      · exact (h13 _ _ _ rfl rfl).elim
      · exact (h14 _ _ rfl rfl).elim
      · exact (h15 _ _ rfl rfl).elim
      · exact (h16 _ _ _ rfl rfl).elim
      · exact (h17 _ _ _ _ _ _ rfl rfl).elim
      · exact (h18 _ _ rfl rfl).elim
      · rfl
    refine ⟨fun y => ?_, fun y => ?_, fun y => ?_, fun y => ?_, fun y => ?_⟩
    · subst y
      intro l vis lo hi rh D lv q r a z h Y hY hc hg
      rw [e1] at hg
      exact hg
    · subst y
      intro l vis lo hi rh D lv q r a z h Y hY hc hg
      rw [e1] at hg
      exact hg
    · subst y
      intro l vis lo hi rh D lv q r a z h Y x hY hc hgx hg
      rw [e1] at hg
      exact hg
    · subst y
      intro l vis lo hi rh D lv q r a z h Y G' w x hY cvz ecG dG gk wb hc hgx b m hm
      exfalso
      unfold gLs at hm
      split at hm
      · exact h17 _ _ _ _ _ _ rfl rfl
      · exact nomatch hm
    · subst y
      intro l vis lo hi rh D lv q r a z wf v1 v2 v3 v4 cx q3 h5' ho hT Y b a0 pri pre g hY b3 hb hc hg hcl
      have t0 : tmN A = 0 := by
        unfold tmN
        split
        · exact (h18 _ _ rfl rfl).elim
        · rfl
      refine ⟨[], ?_, by rw [t0]; rfl, fun X hX => (nomatch hX), List.Pairwise.nil, fun _ X hX => (nomatch hX), fun h2 => by omega⟩
      unfold hB
      split
      · exact (h18 _ _ rfl rfl).elim
      · rfl
end
