/-! (S): the next one comes; a step -/
section
variable {C : Cx} {M : Nat} {E : En} {s s' : Cr} {w w' : Wd} {g : Gh} {Q Q' Q'' : Thr} {t : Nat} {th th' : Th}
theorem nFr.rf {R : Nat → Sg → Prop} : nFr R Q Q := ⟨fun b tb f h1 h2 => Or.inr ⟨b, tb, f, h1, h2, rfl⟩, id⟩
theorem nFr.tr {R : Nat → Sg → Prop} (h : nFr R Q Q') (h' : nFr R Q' Q'') : nFr R Q Q'' := by
  refine ⟨?_, fun y => h'.2 (h.2 y)⟩
  intro b tb f h1 h2
  rcases h'.1 b tb f h1 h2 with k | ⟨b0, tb0, f0, k1, k2, k3⟩
  · exact Or.inl k
  · rcases h.1 b0 tb0 f0 k1 k2 with l | ⟨b1, tb1, f1, l1, l2, l3⟩
    · exact Or.inl (k3 ▸ l)
    · exact Or.inr ⟨b1, tb1, f1, l1, l2, l3.trans k3⟩
theorem rwTn {W : Nat} {jz : Nat × Sg} {r : List Fm} (I : Inv C M s w g Q E) (e : Q t = some th) (ef : thF th = (W, jz) :: r) (h14 : s.1 14 = 0) (H' : ∀ n ∈ s'.2.2.1, n ∈ s.2.2.1 ∧ n ≠ W) (L' : ∀ n ∈ s'.2.2.2, n ∈ s.2.2.2 ∧ n ≠ W) (n1 : s'.2.2.1.Nodup) (n2 : s'.2.2.2.Nodup)
    (h22 : ¬ s'.1 22 = 0 → ¬ s.1 22 = 0 ∧ thS th ≠ 7) (h15 : ¬ s'.1 15 = 0 → s'.1 22 = 0) (l : lo s') : row s' (qU Q t (thN th 0 0)) := by
  obtain ⟨i4, i5, i6, i7, i8, i9, i10, i11, i12, i13⟩ := I.2.2.2.1
  have no0 : ∀ b tb, qU Q t (thN th 0 0) b = some tb → thS tb = 0 → b = t := by
    intro b tb hb hs
    by_cases c : b = t
    · exact c
    · rw [qU_n c] at hb
      obtain ⟨W0, j0, z0, r0, a1, -⟩ := I.2.1 b tb hb
      exact ((run_0 I hb hs a1).1 h14).elim
  have back : ∀ b tb, qU Q t (thN th 0 0) b = some tb → thS tb ≠ 0 → b ≠ t ∧ Q b = some tb := by
    intro b tb hb hs
    by_cases c : b = t
    · subst c
      rw [qU_t] at hb
      cases hb
      exact (hs rfl).elim
    · rw [qU_n c] at hb
      exact ⟨c, hb⟩
  refine ⟨fun _ => ⟨t, _, qU_t, rfl⟩, fun b tb b' tb' hb hb' z1 z2 => by rw [no0 b tb hb z1, no0 b' tb' hb' z2], fun b tb b' tb' hb hb' z1 z2 => ?_, fun n hn => ?_, fun n hn => ?_, n1, n2, fun z => ?_, fun _ z2 => h15 z2, l⟩
  · obtain ⟨b1, b2⟩ := back b tb hb (by omega)
    obtain ⟨c1, c2⟩ := back b' tb' hb' (by omega)
    exact i6 b tb b' tb' b2 c2 z1 z2
  · obtain ⟨m1, m2⟩ := H' n hn
    obtain ⟨b, tb, j0, r0, k1, k2, k3, k4⟩ := i7 n m1
    have ct : b ≠ t := fun z => by subst z; rw [e] at k1; cases k1; rw [ef] at k4; cases k4; exact m2 rfl
    exact ⟨b, tb, j0, r0, (qU_n ct).trans k1, k2, k3, k4⟩
  · obtain ⟨m1, m2⟩ := L' n hn
    obtain ⟨b, tb, j0, r0, k1, k2, k3, k4⟩ := i8 n m1
    have ct : b ≠ t := fun z => by subst z; rw [e] at k1; cases k1; rw [ef] at k4; cases k4; exact m2 rfl
    exact ⟨b, tb, j0, r0, (qU_n ct).trans k1, k2, k3, k4⟩
  · obtain ⟨y1, y2⟩ := h22 z
    obtain ⟨b, tb, k1, k2⟩ := i11 y1
    have ct : b ≠ t := fun z => by subst z; rw [e] at k1; cases k1; exact y2 k2
    exact ⟨b, tb, (qU_n ct).trans k1, k2⟩
/-- a parent that is not stopped -/
theorem par_s (I : Inv C M s w g Q E) (e : Q t = some th) {c : Nat} (hc : c ∈ thK th) : thS th = 0 ∨ thS th = 5 ∨ thS th = 7 := by
  obtain ⟨W0, j0, z0, r0, a1, a2, a3, a4, a5, a6, a7, a8, a9, a10, a11, a12, -⟩ := I.2.1 t th e
  exact (a12.2.1 (fun y => by rw [y] at hc; exact nomatch hc)).1.1.2.2.2.2.2.2
theorem st_W {n : Nat} {lo : Int32} (b : wM s M) (h1 : 1 ≤ n) (h2 : n ≤ M) : cStart s n lo = some (sR (sR (sR (sR (sR (sR (sR (sR (sR s 14 1) 12 (nI n)) 15 lo) 16 0) 8 0) 9 0) 10 0) 13 0) 11 (s.2.1 (n - 1))) := by
  unfold cStart
  rw [show (1 : Int32) = nI 1 from rfl, nI_sub h1, ad_n b (by omega)]
  rfl
/-- the next one comes -/
theorem next (I : Inv C M s w g Q E) : ∃ s', cNext s = some s' ∧ ∃ Q', Inv C M s' w g Q' E ∧ nFr (fun _ _ => False) Q Q' := by
  by_cases h14 : s.1 14 = 0
  · obtain ⟨i4, i5, i6, i7, i8, i9, i10, i11, i12, i13⟩ := I.2.2.2.1
    have no0 : ∀ b tb, Q b = some tb → thS tb ≠ 0 := by
      intro b tb hb hs
      obtain ⟨W0, j0, z0, r0, a1, -⟩ := I.2.1 b tb hb
      exact (run_0 I hb hs a1).1 h14
    have un : cNext s = (match s.2.2.1, s.2.2.2 with
      | n :: H, L => cStart (sQ s H L) n 0
      | [], n :: L => (cStart (sQ s [] L) n 1).bind fun s => if s.1 22 = 0 then some s else if s.1 23 = nI n then some (sR (sR (sR (sR (sR s 8 (s.1 24)) 9 (s.1 25)) 10 (s.1 26)) 13 (s.1 27)) 22 0) else none
      | [], [] => some s) := by
      unfold cNext
      rw [if_neg (fun y => y h14)]
      rfl
    cases hH : s.2.2.1 with
    | cons n H =>
      obtain ⟨t, th, ⟨j, z⟩, r, k1, k2, k3, k4⟩ := i7 n (by rw [hH]; exact List.mem_cons_self)
      obtain ⟨q1, q2⟩ := rdy_1 I k1 k2 k4
      obtain ⟨hW, hWM, -, ct⟩ := W_M I k1 k4
      have nd : n ∉ H ∧ H.Nodup := List.nodup_cons.mp (by rw [← hH]; exact i9)
      refine ⟨_, by rw [un, hH]; exact st_W (s := sQ s H s.2.2.2) (M := M) I.1 (by omega) (by omega), qU Q t (thN th 0 0), ?_, nFr_N k1⟩
      refine turn I k1 k4 (Or.inr (Or.inl k2)) (Or.inl rfl) (fun h => absurd h (by decide)) rfl (fun _ _ => rfl) (fun b tb _ eb h => (no0 b tb eb h).elim) (fun x hx => ⟨fun h => ?_, id⟩) (fun b tb _ _ _ => ⟨fun i h1 h2 => ?_, rfl⟩) (fun u tu hu eu hk n5 hpp _ => ?_) ⟨by show ¬ (1 : Int32) = 0; decide, rfl, by show (0 : Int32) = nI (thP th); rw [k3]; rfl, Or.inl ⟨q1, rfl⟩, ?_⟩ ?_
      · rw [hH] at h
        rcases List.mem_cons.mp h with y | y
        · exact (hx y).elim
        · exact y
      · show (if i = 11 then _ else if i = 13 then _ else if i = 10 then _ else if i = 9 then _ else if i = 8 then _ else if i = 16 then _ else if i = 15 then _ else if i = 12 then _ else if i = 14 then _ else s.1 i) = s.1 i
        rw [if_neg (by omega), if_neg (by omega), if_neg (by omega), if_neg (by omega), if_neg (by omega), if_neg (by omega), if_neg (by omega), if_neg (by omega), if_neg (by omega)]
      · have := par_s I eu hk
        obtain ⟨W0, j0, z0, r0, a1, -⟩ := I.2.1 u tu eu
        rcases this with y | y | y
        · exact (no0 u tu eu y).elim
        · exact (n5 y).elim
        · have := (top_7 I eu y a1).1
          omega
      · unfold rOK
        rw [show zA z = (k0, k0, k0) from q2]
        exact ⟨trivial, trivial, trivial⟩
      · refine rwTn I k1 k4 h14 (fun x hx => ⟨by rw [hH]; exact List.mem_cons_of_mem _ hx, fun y => nd.1 (y ▸ hx)⟩) (fun x hx => ⟨hx, fun y => ?_⟩) nd.2 i10 (fun y => ⟨y, by omega⟩) (fun y => (y rfl).elim) (Or.inl rfl)
        have hx : x ∈ s.2.2.2 := hx
        rw [y] at hx
        have := (in_row I k1 k4).2 hx
        omega
    | nil =>
      cases hL : s.2.2.2 with
      | nil => exact ⟨s, by rw [un, hH, hL], Q, I, nFr.rf⟩
      | cons n L =>
        obtain ⟨t, th, ⟨j, z⟩, r, k1, k2, k3, k4⟩ := i8 n (by rw [hL]; exact List.mem_cons_self)
        obtain ⟨hW, hWM, -, ct⟩ := W_M I k1 k4
        have nd : n ∉ L ∧ L.Nodup := List.nodup_cons.mp (by rw [← hL]; exact i10)
        have o7 : ∀ b tb, Q b = some tb → thS tb = 7 → b = t := by
          intro b tb eb h7
          by_cases c : b = t
          · exact c
          · obtain ⟨W0, j0, z0, r0, a1, -⟩ := I.2.1 b tb eb
            have hd := (top_7 I eb h7 a1).2.1
            rw [hL] at hd
            have hd : n = W0 := Option.some.inj hd
            exact absurd hd.symm (W_ne I k1 eb k4 a1 c)
        have hpu : ∀ u tu, u ≠ t → Q u = some tu → t ∈ thK tu → thS tu ≠ 5 → thP th = thP tu → thS th = 1 → (0 : Nat) = 1 := by
          intro u tu hu eu hk n5 _ _
          rcases par_s I eu hk with y | y | y
          · exact (no0 u tu eu y).elim
          · exact (n5 y).elim
          · exact (hu (o7 u tu eu y)).elim
        have hx1 : ∀ x, x ≠ n → x ∈ s.2.2.2 → x ∈ L := by
          intro x hx h
          rw [hL] at h
          rcases List.mem_cons.mp h with y | y
          · exact (hx y).elim
          · exact y
        have hx2 : ∀ x ∈ L, x ∈ s.2.2.2 ∧ x ≠ n := fun x hx => ⟨by rw [hL]; exact List.mem_cons_of_mem _ hx, fun y => nd.1 (y ▸ hx)⟩
        have st := st_W (s := sQ s [] L) (M := M) (n := n) (lo := 1) I.1 (by omega) (by omega)
        rcases k2 with k2 | k2
        · obtain ⟨q1, q2⟩ := rdy_1 I k1 k2 k4
          have n22 : s.1 22 = 0 := Classical.byContradiction fun c => by
            obtain ⟨b, tb, l1, l2⟩ := i11 c
            have := o7 b tb l1 l2
            subst this
            rw [k1] at l1
            cases l1
            omega
          refine ⟨_, by rw [un, hH, hL]; show (cStart (sQ s [] L) n 1).bind _ = _; rw [st]; show (if s.1 22 = 0 then _ else _) = _; rw [if_pos n22], qU Q t (thN th 0 0), ?_, nFr_N k1⟩
          refine turn I k1 k4 (Or.inr (Or.inl k2)) (Or.inl rfl) (fun h => absurd h (by decide)) rfl (fun _ _ => rfl) (fun b tb _ eb h => (no0 b tb eb h).elim) (fun x hx => ⟨fun h => by rw [hH] at h; exact h, hx1 x hx⟩) (fun b tb hb eb h7 => (hb (o7 b tb eb h7)).elim) hpu ⟨by show ¬ (1 : Int32) = 0; decide, rfl, by show (1 : Int32) = nI (thP th); rw [k3]; rfl, Or.inl ⟨q1, rfl⟩, ?_⟩ ?_
          · unfold rOK
            rw [show zA z = (k0, k0, k0) from q2]
            exact ⟨trivial, trivial, trivial⟩
          · exact rwTn I k1 k4 h14 (fun x hx => nomatch hx) hx2 List.nodup_nil nd.2 (fun y => (y n22).elim) (fun _ => n22) (Or.inr rfl)
        · obtain ⟨W0, j0, z0, r0, a1, a2, a3, a4, a5, a6, a7, a8, a9, -⟩ := I.2.1 t th k1
          rw [k4] at a1
          cases a1
          unfold sOK at a9
          rw [k2] at a9
          obtain ⟨-, -, c1, c2, c3, c4⟩ := a9
          refine ⟨_, by rw [un, hH, hL]; show (cStart (sQ s [] L) n 1).bind _ = _; rw [st]; show (if s.1 22 = 0 then _ else if s.1 23 = nI n then _ else none) = _; rw [if_neg c1, if_pos c2], qU Q t (thN th 0 0), ?_, nFr_N k1⟩
          refine turn I k1 k4 (Or.inr (Or.inr k2)) (Or.inl rfl) (fun h => absurd h (by decide)) rfl (fun _ _ => rfl) (fun b tb _ eb h => (no0 b tb eb h).elim) (fun x hx => ⟨fun h => by rw [hH] at h; exact h, hx1 x hx⟩) (fun b tb hb eb h7 => (hb (o7 b tb eb h7)).elim) (fun u tu _ _ _ _ _ y => by omega) ⟨by show ¬ (1 : Int32) = 0; decide, rfl, by show (1 : Int32) = nI (thP th); rw [k3]; rfl, c3, c4⟩ ?_
          exact rwTn I k1 k4 h14 (fun x hx => nomatch hx) hx2 List.nodup_nil nd.2 (fun y => (y rfl).elim) (fun _ => rfl) (Or.inr rfl)
  · exact ⟨s, by unfold cNext; rw [if_pos h14], Q, I, nFr.rf⟩
theorem pre (I : Inv C M s w g Q E) : ∃ s', cPre s = some s' ∧ ∃ Q', Inv C M s' w g Q' E ∧ nFr (fun _ _ => False) Q Q' := by
  by_cases h : ¬ s.1 14 = 0 ∧ ¬ s.1 15 = 0 ∧ s.2.2.1 ≠ []
  · obtain ⟨i4, -⟩ := I.2.2.2.1
    obtain ⟨t, th, k1, k2⟩ := i4 h.1
    obtain ⟨W, j, z, r, a1, -⟩ := I.2.1 t th k1
    obtain ⟨hW, hWM, -, ct⟩ := W_M I k1 a1
    obtain ⟨-, q12, -⟩ := run_0 I k1 k2 a1
    obtain ⟨s1, b1, b2, b3, b4, b5⟩ := aside I k1 k2 a1 h.2.1
    have hM := I.1.2
    refine ⟨sQ s1 s1.2.2.1 (W :: s1.2.2.2), ?_, _, b4, nFr_N k1⟩
    unfold cPre
    rw [if_pos h, if_pos ⟨by rw [q12]; exact in_n (by omega) (by omega), row_lt I⟩, b1]
    show some (sQ s1 s1.2.2.1 ((s1.1 12).toNatClampNeg :: s1.2.2.2)) = _
    rw [b2, nI_clamp (by omega)]
  · exact ⟨s, if_neg h, Q, I, nFr.rf⟩
theorem settle (I : Inv C M s w g Q E) : ∃ s', cSettle s = some s' ∧ ∃ Q', Inv C M s' w g Q' E ∧ nFr (fun _ _ => False) Q Q' := by
  obtain ⟨s1, a1, Q1, a2, a3⟩ := pre I
  obtain ⟨s2, b1, Q2, b2, b3⟩ := next a2
  exact ⟨s2, by unfold cSettle; rw [a1]; exact b1, Q2, b2, a3.tr b3⟩
/-- a jump -/
theorem i_j {R : Nat → Sg → Prop} {j : Nat} {v : Int32} {z : Sg} {p : Nat} (hC : C.1 j = some (0, v)) (hv : v = nI (C.2 p) - nI (C.2 (j + 1))) (z0 : (zR z).1 = 0) (hP : R p (zSA z (k0, k0, k0))) : rul C M E R j z := by
  refine ⟨0, v, hC, fun s w g Q t th W r I _ e e0 ef h11 => ?_⟩
  have h11' : (sR (rdB s) 13 0).1 11 = nI (C.2 (j + 1)) := h11
  obtain ⟨hW, hWM, p1, ct⟩ := W_M I e ef
  obtain ⟨-, q12, q15, -⟩ := run_0 I e e0 ef
  have hM := I.1.2
  have nx : (sR (rdB s) 13 0).1 11 + v = nI (C.2 p) := by rw [h11', hv, Int32.add_comm, Int32.sub_add_cancel]
  have I1 : Inv C M (sR (sR (rdB s) 13 0) 11 ((sR (rdB s) 13 0).1 11 + v)) w g (qU Q t ((W, p, zSA z (k0, k0, k0)) :: r, th.2)) E := by
    refine dw_go I e e0 ef (fun i hi => ?_) rfl (fun x hx => (hx rfl).elim) (Or.inl ⟨nx, rfl⟩) ⟨trivial, trivial, trivial⟩
    show (if i = 11 then _ else (sR (rdB s) 13 0).1 i) = _
    rw [if_neg (by omega)]
    exact rd_r i (by omega)
  by_cases c : ¬ (sR (rdB s) 13 0).1 15 = 0 ∧ 64 ≤ (sR (rdB s) 13 0).1 16 ∧ (sR (rdB s) 13 0).2.2.2 ≠ []
  · have pp : thP th = 1 := by
      by_cases c0 : thP th = 0
      · rw [c0] at q15; exact (c.1 q15).elim
      · omega
    have rs := rs_ok (s := sR (sR (rdB s) 13 0) 11 ((sR (rdB s) 13 0).1 11 + v)) (M := M) (W := W) I.1 q12 (by omega) (by omega)
    have kd : thK th = [] := kid_0 I e e0 ef z0
    have rl : (sR (rdB s) 13 0).2.2.1.length + (sR (rdB s) 13 0).2.2.2.length < 1090 := row_lt (s := s) I
    have I2 := slice (th := ((W, p, zSA z (k0, k0, k0)) :: r, th.2)) I1 qU_t e0 rfl pp kd nx rfl
    refine ⟨_, w, ?_, Or.inl rfl, g, _, I2, (nFr_1 e ef hP).tr (nFr_N qU_t)⟩
    rw [x_dir (by decide)]
    show (if ¬ (sR (rdB s) 13 0).1 15 = 0 ∧ 64 ≤ (sR (rdB s) 13 0).1 16 ∧ (sR (rdB s) 13 0).2.2.2 ≠ [] then (if mj_in ((sR (rdB s) 13 0).1 12) 4016 ∧ (sR (rdB s) 13 0).2.2.1.length + (sR (rdB s) 13 0).2.2.2.length < 1090 then (cRest (sR (sR (rdB s) 13 0) 11 ((sR (rdB s) 13 0).1 11 + v))).map fun s => sQ s s.2.2.1 (s.2.2.2 ++ [(s.1 12).toNatClampNeg]) else none) else _ : Option Cr).map _ = _
    rw [if_pos c, if_pos ⟨by show mj_in (s.1 12) 4016; rw [q12]; exact in_n (by omega) (by omega), rl⟩, rs]
    show some (sQ _ s.2.2.1 (s.2.2.2 ++ [(s.1 12).toNatClampNeg]), w) = _
    rw [q12, nI_clamp (by omega)]
    rfl
  · refine ⟨_, w, ?_, Or.inl rfl, g, _, I1, nFr_1 e ef hP⟩
    rw [x_dir (by decide)]
    show (if ¬ (sR (rdB s) 13 0).1 15 = 0 ∧ 64 ≤ (sR (rdB s) 13 0).1 16 ∧ (sR (rdB s) 13 0).2.2.2 ≠ [] then _ else some (sR (sR (rdB s) 13 0) 11 ((sR (rdB s) 13 0).1 11 + v)) : Option Cr).map _ = _
    rw [if_neg c]
    rfl
/-- all frames are safe -/
def aFr (C : Cx) (M : Nat) (E : En) (Q : Thr) : Prop := (∃ b tb, Q b = some tb) ∧ ∀ b tb f, Q b = some tb → f ∈ thF tb → gfX C M E (fun _ _ => False) f.2.1 f.2.2
theorem aFr.st {R : Nat → Sg → Prop} (h : aFr C M E Q) (n : nFr R Q Q') (hR : ∀ j z, R j z → gfX C M E (fun _ _ => False) j z) : aFr C M E Q' := by
  refine ⟨n.2 h.1, ?_⟩
  intro b tb f h1 h2
  rcases n.1 b tb f h1 h2 with k | ⟨b0, tb0, f0, k1, k2, k3⟩
  · exact hR _ _ k
  · rw [← k3]; exact h.2 b0 tb0 f0 k1 k2
/-- A STEP of a core in order is done, and it is in order again -/
theorem st_ok {cd : Nat → Nat} (o : okC C cd) (I : Inv C M s w g Q E) (hw : wGd w) (h14 : ¬ s.1 14 = 0) (hF : aFr C M E Q) : ∃ s' w', cStep cd s w = some (s', w') ∧ wSt E w w' ∧ ∃ g' Q', Inv C M s' w' g' Q' E ∧ aFr C M E Q' := by
  obtain ⟨t, th, e, e0⟩ := I.2.2.2.1.1 h14
  obtain ⟨W, j, z, r, ef, -⟩ := I.2.1 t th e
  obtain ⟨-, q12, q15, qp, qr⟩ := run_0 I e e0 ef
  rcases gf_pf j z (hF.2 t th (W, j, z) e (by rw [ef]; exact List.mem_cons_self)) with k | k
  · exact k.elim
  · obtain ⟨f, v, hC, hr⟩ := k
    have at1 : ∃ k, atP C s j k := by
      rcases qp with ⟨y1, y2⟩ | ⟨f, v, k, y1, y2, y3, y4⟩
      · exact at_0 hC y1 y2
      · exact ⟨k, f, v, y1, y2, y3, y4⟩
    obtain ⟨k, hk⟩ := at1
    cases k with
    | zero =>
      obtain ⟨b1, b2⟩ := st_last (w := w) o hk hC
      obtain ⟨s1, w1, c1, c2, g1, Q1, c3, c4⟩ := hr s w g Q t th W r I hw e e0 ef b2
      obtain ⟨s2, d1, Q2, d2, d3⟩ := settle c3
      refine ⟨s2, w1, ?_, c2, g1, Q2, d2, (hF.st c4 fun _ _ y => y).st d3 fun _ _ y => y.elim⟩
      rw [b1, c1]
      show (cSettle s1).map _ = _
      rw [d1]
      rfl
    | succ k =>
      obtain ⟨s1, b1, ⟨f', v', b2, b3, b4, b5⟩, u, b6⟩ := st_pre (w := w) o hk
      have I1 : Inv C M s1 w g (qU Q t ((W, j, zSA z (zA z)) :: r, th.2)) E := by
        subst b6
        refine dw_go I e e0 ef (fun i hi => ?_) rfl (fun x hx => (hx rfl).elim) (Or.inr ⟨f', v', k, b2, b3, b4, b5⟩) qr
        show (if i = 13 then _ else (rdB s).1 i) = _
        rw [if_neg (by omega)]
        show (if i = 16 then _ else if i = 17 then _ else if i = 11 then _ else s.1 i) = _
        rw [if_neg (by omega), if_neg (by omega), if_neg (by omega)]
      obtain ⟨s2, d1, Q2, d2, d3⟩ := settle I1
      refine ⟨s2, w, by rw [b1, d1]; rfl, Or.inl rfl, g, Q2, d2, ?_⟩
      refine (hF.st (nFr_1 (R := gfX C M E fun _ _ => False) e ef ?_) fun _ _ y => y).st d3 fun _ _ y => y.elim
      exact hF.2 t th (W, j, z) e (by rw [ef]; exact List.mem_cons_self)
end
