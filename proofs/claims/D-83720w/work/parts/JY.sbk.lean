/-! (S): PAR: it stops, a branch starts -/
/-- other things not yet started; nothing is known of the registers -/
def zSR (z : Sg) (R : Nat × List (Nat × Nat × Nat)) : Sg := (zG z, (k0, k0, k0), zI z, zU z, zL z, R, zW z)
section
variable {C : Cx} {M : Nat} {E : En} {s s' : Cr} {w w' : Wd} {g : Gh} {Q : Thr} {t b : Nat} {th tb : Th} {R : Nat → Sg → Prop} {j : Nat} {z : Sg}
/-- it is gone for ever -/
theorem i_stop {o : Nat} (ho : o = 18 ∨ o = 29 ∨ o = 31) (hC : C.1 j = some (15, nI o)) (z0 : (zR z).1 = 0) (nl : (zL z).2.1 = []) : rul C M E R j z := by
  refine ⟨15, nI o, hC, fun s w g Q t th W r I hw e e0 ef h11 => ?_⟩
  have k := kid_0 I e e0 ef z0
  rcases ho with rfl | rfl | rfl
  · refine ⟨sR (sR (rdB s) 13 0) 14 0, w, x_sch (by decide) (by decide), Or.inl rfl, g, _, gone I e e0 ef k nl (fun i hi => ?_) rfl rfl, nFr_N e⟩
    show (if i = 14 then _ else (sR (rdB s) 13 0).1 i) = _
    rw [if_neg (by omega)]
    exact rd_r i (by omega)
  · refine ⟨cFails (sR (rdB s) 13 0), w, x_sch (by decide) (by decide), Or.inl rfl, g, _, gone I e e0 ef k nl (fun i hi => ?_) rfl rfl, nFr_N e⟩
    show (if i = 14 then _ else if i = 18 then _ else (sR (rdB s) 13 0).1 i) = _
    rw [if_neg (by omega), if_neg (by omega)]
    exact rd_r i (by omega)
  · refine ⟨sR (sR (sR (rdB s) 13 0) 19 1) 14 0, w, x_sch (by decide) (by decide), Or.inl rfl, g, _, gone I e e0 ef k nl (fun i hi => ?_) rfl rfl, nFr_N e⟩
    show (if i = 14 then _ else if i = 19 then _ else (sR (rdB s) 13 0).1 i) = _
    rw [if_neg (by omega), if_neg (by omega)]
    exact rd_r i (by omega)
/-- it stops until its branches have ended -/
theorem i_stopp {beh : Nat} (hC : C.1 j = some (15, nI 18)) (nl : (zL z).2.1 = []) (hz : zR z = (beh + 1, [])) (hR : R beh (zSR z (0, []))) : rul C M E R j z := by
  refine ⟨15, nI 18, hC, fun s w g Q t th W r I hw e e0 ef h11 => ?_⟩
  obtain ⟨W0, j0, z0, r0, a1, a2, a3, a4, a5, a6, a7, a8, a9, a10, a11, a12, a13, a14⟩ := I.2.1 t th e
  rw [ef] at a1
  cases a1
  obtain ⟨p1, p2, p3⟩ := a12
  obtain ⟨⟨kn, eb⟩, -⟩ := p3 (by rw [hz]; exact Nat.succ_ne_zero _) (by omega)
  rw [hz] at eb
  have eb : beh + 1 = (thO th).2 + 1 := eb
  have eb : beh = (thO th).2 := by omega
  obtain ⟨⟨q1, qi⟩, -⟩ := p2 kn
  refine ⟨sR (sR (rdB s) 13 0) 14 0, w, x_sch (by decide) (by decide), Or.inl rfl, g, qU Q t ((W, beh, zSR z (0, [])) :: r, (5, 0, thP th), th.2.2), ?_, nFr_1 e ef hR⟩
  obtain ⟨l2, l3, l4, l5, l6, l7, l8, l13, l14⟩ := fr_M (st := 5) (c := 0) (j' := beh) (z' := zSR z (0, [])) (s' := sR (sR (rdB s) 13 0) 14 0) I e ef rfl rfl rfl rfl (fun _ _ _ => rfl) (fun _ _ _ _ => rfl)
  refine halt I e e0 rfl rfl (Or.inr (Or.inr (Or.inr (Or.inl rfl)))) (fun _ f r' hf => ?_) (fun i hi => ?_) rfl rfl (fun x hx => (hx rfl).elim) (fun _ _ _ _ _ => rfl) (fun _ _ _ _ _ _ _ _ _ _ _ _ _ _ y => y) ⟨W, beh, zSR z (0, []), r, rfl, l2, l3, l4, l5, l6, l7, l8, ⟨rfl, rfl⟩, fun h => ?_, fun _ => nl, ⟨fun y => (y rfl).elim, fun _ => ⟨⟨⟨q1.1, q1.2.1, q1.2.2.1, q1.2.2.2.1, q1.2.2.2.2.1, fun _ => eb, Or.inr (Or.inl rfl)⟩, qi⟩, fun y => (y rfl).elim⟩, fun y => (y rfl).elim⟩, l13, l14⟩ (fun c hc => Or.inr (Or.inr ⟨rfl, ?_⟩)) (wsO_r e I.2.2.2.2 (fun c _ => ⟨fun y => absurd (show (5 : Nat) = 3 from y.1) (by decide), fun y => by omega⟩) (fun h => absurd (show (5 : Nat) = 2 from h) (by decide)))
  · rw [ef] at hf
    cases hf
    exact ⟨_, _, rfl, rfl⟩
  · show (if i = 14 then _ else (sR (rdB s) 13 0).1 i) = _
    rw [if_neg (by omega)]
    exact rd_r i (by omega)
  · exact absurd (show (5 : Nat) = 0 ∨ (5 : Nat) = 1 ∨ (5 : Nat) = 4 ∨ (5 : Nat) = 7 from h) (by decide)
  · rintro ⟨W1, j1, z1, r1, d1, d2, d3⟩
    rw [ef] at d1
    cases d1
    rcases d3 with ⟨d, -⟩ | ⟨d, -⟩ | ⟨-, d⟩
    · omega
    · omega
    · exact (aE_ne d nl).elim
/-- its parent is the one that has it -/
theorem par_1 {u u' : Nat} {tu tu' : Th} (I : Inv C M s w g Q E) (eu : Q u = some tu) (eu' : Q u' = some tu') (h : t ∈ thK tu) (h' : t ∈ thK tu') : u = u' := by
  obtain ⟨W0, j0, z0, r0, a1, a2, a3, a4, a5, a6, a7, a8, -⟩ := I.2.1 u tu eu
  obtain ⟨W1, j1, z1, r1, b1, b2, b3, b4, b5, b6, b7, b8, -⟩ := I.2.1 u' tu' eu'
  obtain ⟨tc, c1, c2⟩ := a8.2.1 t h
  obtain ⟨tc', d1, d2⟩ := b8.2.1 t h'
  rw [c1] at d1
  cases d1
  rw [c2] at d2
  exact (List.cons.inj d2).1
/-- a branch starts -/
theorem i_start {o d st rw n1 n2 beh : Nat} {y : Int} {pend : List (Nat × Nat × Nat)} (ho : (o = 15 ∧ rw ≠ 0) ∨ (o = 16 ∧ rw = 0)) (hC : C.1 j = some (15, nI o)) (nl : (zL z).2.1 = []) (hz : zR z = (beh + 1, (d, st, rw) :: pend)) (hd : ∀ p ∈ pend, p.1 ≠ d) (ha : (zA z).1 = (2, n1, -(d : Int))) (hb : (zA z).2.1 = (7, st, y)) (hR : R (j + 1) (zSR z (beh + 1, pend))) : rul C M E R j z := by
  refine ⟨15, nI o, hC, fun s w g Q t th W r I hw e e0 ef h11 => ?_⟩
  obtain ⟨hE, hr⟩ := fE_i I e e0 ef
  obtain ⟨hW, hWM, p1, ct⟩ := W_M I e ef
  have hM := I.1.2
  obtain ⟨q14, q12, q15, qp, qr⟩ := run_0 I e e0 ef
  obtain ⟨W0, j0, z0, r0, a1, a2, a3, a4, a5, a6, a7, a8, a9, a10, a11, a12, a13, a14⟩ := I.2.1 t th e
  rw [ef] at a1
  cases a1
  obtain ⟨pA, pB, pC⟩ := a12
  obtain ⟨-, pc⟩ := pC (by rw [hz]; exact Nat.succ_ne_zero _) (by omega)
  obtain ⟨dW, c, hc, tc, zc, ec, c8, fc, pc⟩ := pc (d, st, rw) (by rw [hz]; exact List.mem_cons_self)
  have dW : d ≤ W := dW
  have fc : thF tc = [(W - d, st, zc)] := fc
  have pc : thP tc = if rw = 0 then 0 else thP th := pc
  have ct' : c ≠ t := kid_ne I e hc
  -- the parent goes on
  have I1 : Inv C M (cPop (cPop (sR (rdB s) 13 0))) w g (qU Q t ((W, j + 1, zSR z (beh + 1, pend)) :: r, th.2)) E := by
    obtain ⟨b1, b2, b3, b4, b5, b6⟩ := a5 (W, j, z) (by rw [ef]; exact List.mem_cons_self)
    refine go_a I e e0 ef (fun i hi => by rw [po2_r i (by omega) (by omega)]; exact rd_r i (by omega)) rfl (fun x hx => (hx rfl).elim) (fun _ => rfl) (fun _ _ => ⟨rfl, rfl, rfl⟩) rfl rfl rfl ⟨by rw [hz]; rfl, fun p hp => by rw [hz]; exact List.mem_cons_of_mem _ hp⟩ b4 b6 (Or.inl ⟨h11, rfl⟩) ⟨trivial, trivial, trivial⟩ (fun ne => (ne nl).elim) (fun c hc => ⟨(I.2.2.1 c hc).1, Or.inr (Or.inr ⟨hc, rfl, fun _ ae => (aE_ne ae nl).elim⟩)⟩)
  have ec1 : (qU Q t ((W, j + 1, zSR z (beh + 1, pend)) :: r, th.2)) c = some tc := (qU_n ct').trans ec
  obtain ⟨hWc, hWcM, pc1, ctc⟩ := W_M I ec fc
  obtain ⟨V0, k0', y0, x0, v1, v2, v3, v4, v5, v6, v7, v8, v9, v10, v11, v12, v13, v14⟩ := I.2.1 c tc ec
  rw [fc] at v1
  cases v1
  have ncl := v11 (by omega)
  have nck : thK tc = [] := Classical.byContradiction fun y => by
    have := (v12.2.1 y).1.1.2.2.2.2.2.2
    omega
  have ra : rAny zc := by
    unfold sOK at v9
    rw [c8] at v9
    exact v9
  have val8 : s.1 8 = nI (W - d) := by
    have := hr.1
    rw [ha] at this
    have : (s.1 8).toInt = W + (-(d : Int)) := this
    exact Int32.toInt_inj.mp (by rw [this, nI_toInt (by omega)]; omega)
  have val9 : s.1 9 = nI (C.2 st) := by
    have := hr.2.1
    rw [hb] at this
    exact this
  have rl : (sM (sM (cPop (cPop (sR (rdB s) 13 0))) (W - d - 1) (nI (C.2 st))) (W - d - 3) 0).2.2.1.length + (sM (sM (cPop (cPop (sR (rdB s) 13 0))) (W - d - 1) (nI (C.2 st))) (W - d - 3) 0).2.2.2.length < 1090 := row_lt (s := s) I
  have un : xI (sR (rdB s) 13 0) w 15 (nI o) = (cReady (sM (sM (cPop (cPop (sR (rdB s) 13 0))) (W - d - 1) (nI (C.2 st))) (W - d - 3) 0) (nI (2 * (W - d) + thP tc))).map fun s => (s, w) := by
    have x1 : adM (sR (rdB s) 13 0) (nI (W - d) - 1) = some (W - d - 1) := by rw [show (1 : Int32) = nI 1 from rfl, nI_sub (by omega)]; exact ad_n hE.1 (by omega)
    have x3 : adM (sR (rdB s) 13 0) (nI (W - d) - 3) = some (W - d - 3) := by rw [show (3 : Int32) = nI 3 from rfl, nI_sub (by omega)]; exact ad_n hE.1 (by omega)
    rcases ho with ⟨rfl, hrw⟩ | ⟨rfl, hrw⟩
    · rw [x_sch (by decide) (by decide)]
      show (adM (sR (rdB s) 13 0) (s.1 8 - 1)).bind (fun x1 => (adM (sR (rdB s) 13 0) (s.1 8 - 3)).bind fun x3 => (cReady (sM (sM (cPop (cPop (sR (rdB s) 13 0))) x1 (s.1 9)) x3 0) (2 * s.1 8 + s.1 15)).map fun s => (s, w)) = _
      rw [val8, val9, x1, x3, q15, pc, if_neg hrw, show (2 : Int32) = nI 2 from rfl, nI_mul, nI_add]
      rfl
    · rw [x_sch (by decide) (by decide)]
      show (adM (sR (rdB s) 13 0) (s.1 8 - 1)).bind (fun x1 => (adM (sR (rdB s) 13 0) (s.1 8 - 3)).bind fun x3 => (cReady (sM (sM (cPop (cPop (sR (rdB s) 13 0))) x1 (s.1 9)) x3 0) (2 * s.1 8)).map fun s => (s, w)) = _
      rw [val8, val9, x1, x3, pc, if_pos hrw, show (2 : Int32) = nI 2 from rfl, nI_mul]
      rfl
  rw [un, rd_ok pc1 (by omega) rl, rap_eq]
  refine ⟨_, w, rfl, Or.inl rfl, g, qU (qU Q t ((W, j + 1, zSR z (beh + 1, pend)) :: r, th.2)) c (thN tc 1 0), ?_, (nFr_1 e ef hR).tr (nFr_N ec1)⟩
  have mm : ∀ x, x ≠ W - d - 1 → x ≠ W - d - 3 → (sQ (sM (sM (cPop (cPop (sR (rdB s) 13 0))) (W - d - 1) (nI (C.2 st))) (W - d - 3) 0) (rAp (sM (sM (cPop (cPop (sR (rdB s) 13 0))) (W - d - 1) (nI (C.2 st))) (W - d - 3) 0) (thP tc) (W - d)).1 (rAp (sM (sM (cPop (cPop (sR (rdB s) 13 0))) (W - d - 1) (nI (C.2 st))) (W - d - 3) 0) (thP tc) (W - d)).2).2.1 x = s.2.1 x := by
    intro x y1 y2
    show (if x = W - d - 3 then _ else if x = W - d - 1 then _ else s.2.1 x) = _
    rw [if_neg y2, if_neg y1]
  have mA : (sQ (sM (sM (cPop (cPop (sR (rdB s) 13 0))) (W - d - 1) (nI (C.2 st))) (W - d - 3) 0) (rAp (sM (sM (cPop (cPop (sR (rdB s) 13 0))) (W - d - 1) (nI (C.2 st))) (W - d - 3) 0) (thP tc) (W - d)).1 (rAp (sM (sM (cPop (cPop (sR (rdB s) 13 0))) (W - d - 1) (nI (C.2 st))) (W - d - 3) 0) (thP tc) (W - d)).2).2.1 (W - d - 1) = nI (C.2 st) := by
    show (if W - d - 1 = W - d - 3 then _ else if W - d - 1 = W - d - 1 then _ else _) = _
    rw [if_neg (by omega), if_pos rfl]
  have eq : (sQ (sM (sM (cPop (cPop (sR (rdB s) 13 0))) (W - d - 1) (nI (C.2 st))) (W - d - 3) 0) (rAp (sM (sM (cPop (cPop (sR (rdB s) 13 0))) (W - d - 1) (nI (C.2 st))) (W - d - 3) 0) (thP tc) (W - d)).1 (rAp (sM (sM (cPop (cPop (sR (rdB s) 13 0))) (W - d - 1) (nI (C.2 st))) (W - d - 3) 0) (thP tc) (W - d)).2).2.2 = rAp (cPop (cPop (sR (rdB s) 13 0))) (thP tc) (W - d) := rfl
  have er : ∀ i, (sQ (sM (sM (cPop (cPop (sR (rdB s) 13 0))) (W - d - 1) (nI (C.2 st))) (W - d - 3) 0) (rAp (sM (sM (cPop (cPop (sR (rdB s) 13 0))) (W - d - 1) (nI (C.2 st))) (W - d - 3) 0) (thP tc) (W - d)).1 (rAp (sM (sM (cPop (cPop (sR (rdB s) 13 0))) (W - d - 1) (nI (C.2 st))) (W - d - 3) 0) (thP tc) (W - d)).2).1 i = (cPop (cPop (sR (rdB s) 13 0))).1 i := fun _ => rfl
  generalize sQ (sM (sM (cPop (cPop (sR (rdB s) 13 0))) (W - d - 1) (nI (C.2 st))) (W - d - 3) 0) (rAp (sM (sM (cPop (cPop (sR (rdB s) 13 0))) (W - d - 1) (nI (C.2 st))) (W - d - 3) 0) (thP tc) (W - d)).1 (rAp (sM (sM (cPop (cPop (sR (rdB s) 13 0))) (W - d - 1) (nI (C.2 st))) (W - d - 3) 0) (thP tc) (W - d)).2 = s' at mm mA eq er ⊢
  have n4 : ∀ x, g.2.1 x ≠ 4 → s'.2.1 x = (cPop (cPop (sR (rdB s) 13 0))).2.1 x := fun x hx => mm x (fun y => by rw [y] at hx; exact hx (ctc 1 (by omega)).1) (fun y => by rw [y] at hx; exact hx (ctc 3 (by omega)).1)
  obtain ⟨l2, l3, l4, l5, l6, l7, l8, l13, l14⟩ := fr_N (st := 1) (c := 0) (s' := s') I1 ec1 fc (fun x _ h => n4 x (by omega)) (fun x _ _ h => mm x (by omega) (by omega))
  refine wake (th' := thN tc 1 0) I1 ec1 (by omega) rfl rfl rfl fc (j' := (st, zc)) fc er eq (fun x hx => ?_) (fun b tb hb eb hs => ?_) (fun b tb Wb jb zb rb x hb eb hf ne _ x2 xt => ?_) (fun _ u tu W' j' z' r' p zc' eu hk n5 hf hp hfc => ?_) ⟨W - d, st, zc, [], fc, l2, l3, l4, l5, l6, l7, l8, ⟨?_, mA, ra⟩, fun _ ne => (ne ncl).elim, fun h => ?_, ⟨fun _ _ => nck, fun ne => (ne nck).elim, fun z1 _ => ?_⟩, l13, l14⟩ (fun c' hc' => Or.inr (Or.inr ⟨n4 c' (by omega), ?_⟩)) (wsO_r ec1 I1.2.2.2.2 (fun c _ => ⟨fun y => absurd (show (1 : Nat) = 3 from y.1) (by decide), fun y => by omega⟩) (fun h => absurd (show (1 : Nat) = 2 from h) (by decide)))
  · by_cases y1 : x = W - d - 1
    · subst y1; exact Or.inr (Or.inr ⟨(ctc 1 (by omega)).2, Or.inl (ctc 1 (by omega)).1⟩)
    · by_cases y2 : x = W - d - 3
      · subst y2; exact Or.inr (Or.inr ⟨(ctc 3 (by omega)).2, Or.inl (ctc 3 (by omega)).1⟩)
      · exact (hx (mm x y1 y2)).elim
  · refine n4 _ ?_
    rcases hs with hs | hs
    · have := (w2_tk I1 eb hs).2; omega
    · have := (w3_sd I1 eb hs).2; omega
  · unfold hasC
    rw [n4 x (by omega)]
    exact id
  · have ut : u = t := par_1 I1 eu qU_t hk hc
    subst ut
    rw [qU_t] at eu
    cases eu
    cases hf
    have hp : p ∈ pend := hp
    obtain ⟨W1, j1, z1, r1, k1, -, -, -, -, -, -, -, -, -, -, k12, -⟩ := I1.2.1 _ _ (qU_t (Q := Q) (t := u) (th' := ((W, j + 1, zSR z (beh + 1, pend)) :: r, th.2)))
    cases k1
    have pW := ((k12.2.2 (Nat.succ_ne_zero _) (by show thS th ≠ 5; omega)).2 p hp).1
    rw [fc] at hfc
    have : W - d = W - p.1 := congrArg Prod.fst (List.cons.inj hfc).1
    exact hd p hp (by omega)
  · show if thP tc = 0 then W - d ∈ s'.2.2.1 else W - d ∈ s'.2.2.2
    rw [eq]
    unfold rAp
    split
    · exact List.mem_append_right _ List.mem_cons_self
    · exact List.mem_append_right _ List.mem_cons_self
  · exact absurd (show (1 : Nat) = 2 ∨ (1 : Nat) = 3 ∨ (1 : Nat) = 5 ∨ (1 : Nat) = 8 from h) (by decide)
  · exact ((v12.2.2 z1 (by omega)).1.1 nck).elim
  · rintro ⟨W1, j1, z1, r1, d1, d2, d3⟩
    rcases d3 with ⟨y, -⟩ | ⟨y, -⟩ | ⟨y, -⟩ <;> omega
end
