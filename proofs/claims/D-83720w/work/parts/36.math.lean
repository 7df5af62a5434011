/-! Math.max, Math.min: the small machine's own walk, and the real machine's -/
theorem mj_R_off {G : mj_G} {q : Nat → Option mj_P} {d : Nat} {s : mj_F} (k : Nat) {a : mj_A} (h : mj_nx G q (mj_adv G q k s) = some (false, a)) : mj_R G d q s = none := by
  rw [mj_R_adv G d q k s, mj_R_fix, h]; rfl
theorem mw_max_sp {n d : Nat} {as : List mj_V} {hh : mj_H} {o : mj_O} (hl : as.length = 2) (H : mj_ex mg n d (mt_code 366) (0, mj_args 0 as, [], hh) = some o) : ∃ x y : Int32, as = [.inl x, .inl y] ∧ o = .inl (some (.inl (if x < y then y else x)), hh) := by
  have hR := (mj_R_iff mg d (mt_code 366) _ o).mpr ⟨n, H⟩
  match as, hl, hR with
  | [.inl x, .inl y], _, hR =>
    refine ⟨x, y, rfl, ?_⟩
    have e : mj_R mg d mq_366 (0, [(0, vI x), (1, vI y)], [], hh) = some o := hR
    rw [q_366_0, q_366_10, q_366_10] at e
    by_cases hxy : x < y
    · rw [if_pos hxy] at e ⊢
      exact (Option.some.inj e).symm
    · rw [if_neg hxy] at e ⊢
      exact (Option.some.inj e).symm
  | [.inl x, .inr (.inl w)], _, hR =>
    have e : mj_R mg d mq_366 (0, [(0, .inl x), (1, .inr (.inl w))], [], hh) = none := mj_R_off 1 rfl
    exact absurd (hR.symm.trans e) (by simp)
  | [.inl x, .inr (.inr w)], _, hR =>
    have e : mj_R mg d mq_366 (0, [(0, .inl x), (1, .inr (.inr w))], [], hh) = none := mj_R_off 1 rfl
    exact absurd (hR.symm.trans e) (by simp)
  | [.inr (.inl u), w], _, hR =>
    have e : mj_R mg d mq_366 (0, [(0, .inr (.inl u)), (2, w)], [], hh) = none := mj_R_off 0 rfl
    exact absurd (hR.symm.trans e) (by simp)
  | [.inr (.inr u), w], _, hR =>
    have e : mj_R mg d mq_366 (0, [(0, .inr (.inr u)), (1, w)], [], hh) = none := mj_R_off 0 rfl
    exact absurd (hR.symm.trans e) (by simp)
theorem mw_min_sp {n d : Nat} {as : List mj_V} {hh : mj_H} {o : mj_O} (hl : as.length = 2) (H : mj_ex mg n d (mt_code 367) (0, mj_args 0 as, [], hh) = some o) : ∃ x y : Int32, as = [.inl x, .inl y] ∧ o = .inl (some (.inl (if y < x then y else x)), hh) := by
  have hR := (mj_R_iff mg d (mt_code 367) _ o).mpr ⟨n, H⟩
  match as, hl, hR with
  | [.inl x, .inl y], _, hR =>
    refine ⟨x, y, rfl, ?_⟩
    have e : mj_R mg d mq_367 (0, [(0, vI x), (1, vI y)], [], hh) = some o := hR
    rw [q_367_0, q_367_10, q_367_10] at e
    by_cases hxy : y < x
    · rw [if_pos hxy] at e ⊢
      exact (Option.some.inj e).symm
    · rw [if_neg hxy] at e ⊢
      exact (Option.some.inj e).symm
  | [.inl x, .inr (.inl w)], _, hR =>
    have e : mj_R mg d mq_367 (0, [(0, .inl x), (1, .inr (.inl w))], [], hh) = none := mj_R_off 1 rfl
    exact absurd (hR.symm.trans e) (by simp)
  | [.inl x, .inr (.inr w)], _, hR =>
    have e : mj_R mg d mq_367 (0, [(0, .inl x), (1, .inr (.inr w))], [], hh) = none := mj_R_off 1 rfl
    exact absurd (hR.symm.trans e) (by simp)
  | [.inr (.inl u), w], _, hR =>
    have e : mj_R mg d mq_367 (0, [(0, .inr (.inl u)), (2, w)], [], hh) = none := mj_R_off 0 rfl
    exact absurd (hR.symm.trans e) (by simp)
  | [.inr (.inr u), w], _, hR =>
    have e : mj_R mg d mq_367 (0, [(0, .inr (.inr u)), (1, w)], [], hh) = none := mj_R_off 0 rfl
    exact absurd (hR.symm.trans e) (by simp)
theorem mw_minl_sp {n d : Nat} {as : List mj_V} {hh : mj_H} {o : mj_O} (hl : as.length = 2) (H : mj_ex mg n d (mt_code 368) (0, mj_args 0 as, [], hh) = some o) : ∃ x y : Int64, as = [.inr (.inl x), .inr (.inl y)] ∧ o = .inl (some (.inr (.inl (if y < x then y else x))), hh) := by
  have hR := (mj_R_iff mg d (mt_code 368) _ o).mpr ⟨n, H⟩
  match as, hl, hR with
  | [.inr (.inl x), .inr (.inl y)], _, hR =>
    refine ⟨x, y, rfl, ?_⟩
    have e : mj_R mg d mq_368 (0, [(0, vL x), (2, vL y)], [], hh) = some o := hR
    rw [q_368_0, q_368_11, q_368_11] at e
    have hc : 0 < lg_cmp x y ↔ y < x := lg_cmp_gt x y
    by_cases hxy : y < x
    · rw [if_pos (hc.mpr hxy)] at e
      rw [if_pos hxy]
      exact (Option.some.inj e).symm
    · rw [if_neg (fun q => hxy (hc.mp q))] at e
      rw [if_neg hxy]
      exact (Option.some.inj e).symm
  | [.inr (.inl x), .inl w], _, hR =>
    have e : mj_R mg d mq_368 (0, [(0, .inr (.inl x)), (2, .inl w)], [], hh) = none := mj_R_off 1 rfl
    exact absurd (hR.symm.trans e) (by simp)
  | [.inr (.inl x), .inr (.inr w)], _, hR =>
    have e : mj_R mg d mq_368 (0, [(0, .inr (.inl x)), (2, .inr (.inr w))], [], hh) = none := mj_R_off 1 rfl
    exact absurd (hR.symm.trans e) (by simp)
  | [.inl u, w], _, hR =>
    have e : mj_R mg d mq_368 (0, [(0, .inl u), (1, w)], [], hh) = none := mj_R_off 0 rfl
    exact absurd (hR.symm.trans e) (by simp)
  | [.inr (.inr u), w], _, hR =>
    have e : mj_R mg d mq_368 (0, [(0, .inr (.inr u)), (1, w)], [], hh) = none := mj_R_off 0 rfl
    exact absurd (hR.symm.trans e) (by simp)
section Sound
variable {p : Program} {l : Launch} {e : Env} {R : Room} {s : State} {m : MethodId} {args : Array Value} {below : List Frame} {meth : Method} {c : Code} {Q : State → Prop} {dC : Nat → ClassId} {dI : Nat → Nat → Nat} {ad : Nat → Nat → Nat} {cA : Nat → ClassId} {mi pc n9 a b c9 e9 len d n : Nat} {v9 : Int32} {i : Instr} {lv : mj_L} {st : List mj_V} {hh : mj_H} {r0 : mj_O}
theorem mw_ml_link {x nest z : Nat} (h : (x, a, nest, z) ∈ mw_ml (mw_mc mi)) (ha : 366 ≤ a) (hml0 : ∀ cn q, q ∈ mw_ml cn → 366 ≤ q.2.1 → q.2.2.1 = 0) : Cond.methodLink (mw_on (mw_mc mi)) x (mw_y a) ∈ mw_good := by
  have h1 := mw_ml_in _ _ h
  exact h1.1 (hml0 _ _ h ha)
theorem mw_o_math (X : mw_cx dC dI cA p s m args meth c mi) (hR : 8 ≤ R.frames ∧ 512 ≤ R.locals) (ha : 366 ≤ a) (hd : decode (mw_b mi) pc = .ok (i, len)) (hf : mw_fit mi pc i len (37, n9, a, b, c9, e9, v9) = true) (hml0 : ∀ cn q, q ∈ mw_ml cn → 366 ≤ q.2.1 → q.2.2.1 = 0)
    (H : mj_do (mo_cs n9 a b c9 v9 lv st hh) (mj_ex mg n d (mt_code mi)) (mj_down (mj_ex mg n) mg d) = some r0)
    (go : ∀ {f : mj_F}, mj_ex mg n d (mt_code mi) f = some r0 → mw_W p l e R s m args below meth c Q dC dI ad cA mi f) : mw_W p l e R s m args below meth c Q dC dI ad cA mi (pc, lv, st, hh) := by
  unfold mo_cs at H
  split at H
  · rename_i as r hpop
    obtain ⟨g1, H⟩ := mw_do_call H
    obtain ⟨hst, hlen⟩ := mj_pop_st hpop
    subst hst
    simp only [Bool.and_eq_true, Nat.ble_eq, Nat.beq_eq] at g1
    simp only [mw_fit] at hf
    split at hf <;> simp only [Bool.and_eq_true, Nat.beq_eq, Bool.false_eq_true, Nat.ble_eq] at hf
    rename_i x
    obtain ⟨⟨⟨⟨⟨⟨⟨h1, h2⟩, hm⟩, hs⟩, hb9⟩, hc9⟩, hw⟩, ha2⟩ := hf
    subst h1 h2
    obtain ⟨nest, z, hin⟩ := mw_isM_spec hm
    have hlink := mw_ml_link hin ha hml0
    obtain ⟨hx, hb, hml, -, -, hown, hts, -⟩ := X
    have hr8 : (((r.map (mw_v ad))).map fun v => v.category).sum ≤ 8 := by rw [mw_wd_sum]; exact g1.1
    cases d with
    | zero => exact (mj_ca_none H).elim
    | succ d =>
      have H : mj_ca c9 (mj_ex mg n d (mt_code a) (0, mj_args 0 as, [], hh)) (mj_ex mg n (d + 1) (mt_code mi)) (pc + 3, lv, r, hh) = some r0 := H
      cases hx9 : mj_ex mg n d (mt_code a) (0, mj_args 0 as, [], hh) with
      | none => rw [hx9] at H; exact (mj_ca_none H).elim
      | some o =>
        rw [hx9] at H
        have h3 : a = 366 ∨ a = 367 ∨ a = 368 := by omega
        rcases h3 with rfl | rfl | rfl
        · obtain ⟨u, w, rfl, rfl⟩ := mw_max_sp (by rw [hlen, hb9]; rfl) hx9
          have H := mj_ca_ret H
          intro hok ls HH locs hl hP hS
          have kk := go H (mw_okf_st hok (fun v hv => by rcases List.mem_cons.mp hv with rfl | hv; trivial; exact hok.2.1 v (List.mem_cons_of_mem _ (List.mem_cons_of_mem _ hv)))) ls HH locs hl hP hS
          exact va_mmax hx hb (hml.trans hl.1.symm) hown (hts _ hlink) (hts _ (mw_good_of (mw_tm5 (List.mem_of_getElem? (i := 222) rfl)) rfl)) (hts _ (mw_good_of (mw_tm1 (List.mem_of_getElem? (i := 27) rfl)) rfl)) (hts _ (mw_good_of (mw_tm5 (List.mem_of_getElem? (i := 223) rfl)) rfl)) (by omega) (Nat.le_trans (Nat.add_le_add_right hr8 13) (by omega)) (Nat.zero_le _) (Nat.zero_le _) hd kk
        · obtain ⟨u, w, rfl, rfl⟩ := mw_min_sp (by rw [hlen, hb9]; rfl) hx9
          have H := mj_ca_ret H
          intro hok ls HH locs hl hP hS
          have kk := go H (mw_okf_st hok (fun v hv => by rcases List.mem_cons.mp hv with rfl | hv; trivial; exact hok.2.1 v (List.mem_cons_of_mem _ (List.mem_cons_of_mem _ hv)))) ls HH locs hl hP hS
          exact va_mmin hx hb (hml.trans hl.1.symm) hown (hts _ hlink) (hts _ (mw_good_of (mw_tm6 (List.mem_of_getElem? (i := 45) rfl)) rfl)) (hts _ (mw_good_of (mw_tm1 (List.mem_of_getElem? (i := 27) rfl)) rfl)) (hts _ (mw_good_of (mw_tm6 (List.mem_of_getElem? (i := 46) rfl)) rfl)) (by omega) (Nat.le_trans (Nat.add_le_add_right hr8 13) (by omega)) (Nat.zero_le _) (Nat.zero_le _) hd kk
        · obtain ⟨u, w, rfl, rfl⟩ := mw_minl_sp (by rw [hlen, hb9]; rfl) hx9
          have H := mj_ca_ret H
          intro hok ls HH locs hl hP hS
          have kk := go H (mw_okf_st hok (fun v hv => by rcases List.mem_cons.mp hv with rfl | hv; trivial; exact hok.2.1 v (List.mem_cons_of_mem _ (List.mem_cons_of_mem _ hv)))) ls HH locs hl hP hS
          exact va_mmin_long hx hb (hml.trans hl.1.symm) hown (hts _ hlink) (hts _ (mw_good_of (mw_tm6 (List.mem_of_getElem? (i := 3) rfl)) rfl)) (hts _ (mw_good_of (mw_tm1 (List.mem_of_getElem? (i := 27) rfl)) rfl)) (hts _ (mw_good_of (mw_tm6 (List.mem_of_getElem? (i := 4) rfl)) rfl)) (by omega) (Nat.le_trans (Nat.add_le_add_right hr8 15) (by omega)) (Nat.zero_le _) (Nat.zero_le _) hd kk
  · simp [mj_do] at H
end Sound
