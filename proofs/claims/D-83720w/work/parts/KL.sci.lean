/-! (S): processes: calls, ALT -/
section
variable {C : Cx} {M : Nat} {E : En} {pe : Nat → Nat} {sy : List Sym} {pz : List (Nat × Nat)} {pa : List (List Nat)} {pb : Nat → Nat} {kp : Nat → Bool} {fl mk : Bool} {lk : List (Nat × Nat)} {wh : Option Nat} {T : Nat}
theorem evA_i {vis : List Nat} {r : Nat → Int32} : ∀ (qs : List Nat) (as : Tm) (i q : Nat), wfA sy vis qs as → qs[i]? = some q → srO sy q ≠ 3 → (∀ e ∈ evT kp sy r (pb q) (tmG as i), e ∈ evA kp sy pb r qs as) ∧ (kyT sy r (tmG as i), pb q, srO sy q == 8) ∈ gvA sy pb r qs as := by
  intro qs
  induction qs with
  | nil => intro as i q _ h; exact nomatch h
  | cons q0 qs ih =>
    intro as i q wf hi n3
    obtain ⟨x, as', rfl, -, wr⟩ := wfA_c wf
    rw [evA, gvA]
    cases i with
    | zero =>
      have : q0 = q := Option.some.inj hi
      subst this
      rw [if_neg n3, if_neg n3]
      exact ⟨fun e he => List.mem_append_left _ he, List.mem_append_left _ List.mem_cons_self⟩
    | succ i =>
      obtain ⟨a1, a2⟩ := ih as' i q wr hi n3
      exact ⟨fun e he => List.mem_append_right _ (a1 e he), List.mem_append_right _ a2⟩
theorem prs_i {vis : List Nat} {r : Nat → Int32} : ∀ (qs : List Nat) (as : Tm) (i j q q' : Nat), wfA sy vis qs as → prs (gvA sy pb r qs as) = false → i < j → qs[i]? = some q → qs[j]? = some q' → srO sy q ≠ 3 → srO sy q' = 8 → mtK (kyT sy r (tmG as i)) (kyT sy r (tmG as j)) = false := by
  intro qs
  induction qs with
  | nil => intro as i j q q' _ _ _ h; exact nomatch h
  | cons q0 qs ih =>
    intro as i j q q' wf hp lt hi hj n3 h8
    obtain ⟨x, as', rfl, -, wr⟩ := wfA_c wf
    rw [gvA] at hp
    cases j with
    | zero => omega
    | succ j =>
      cases i with
      | zero =>
        have : q0 = q := Option.some.inj hi
        subst this
        rw [if_neg n3] at hp
        have hp : (List.any (gvA sy pb r qs as') (ao1 (kyT sy r x, pb q0, srO sy q0 == 8)) || prs (gvA sy pb r qs as')) = false := hp
        rw [Bool.or_eq_false_iff, List.any_eq_false] at hp
        have m := (evA_i (kp := fun _ => true) (pb := pb) (r := r) qs as' j q' wr hj (by omega)).2
        have := hp.1 _ m
        unfold ao1 at this
        simp only [h8, beq_self_eq_true, Bool.true_or, Bool.and_true] at this
        exact Bool.not_eq_true _ |>.mp this
      | succ i =>
        refine ih as' i j q q' wr ?_ (by omega) hi hj n3 h8
        split at hp
        · exact hp
        · have hp : (List.any (gvA sy pb r qs as') (ao1 (kyT sy r x, pb q0, srO sy q0 == 8)) || prs (gvA sy pb r qs as')) = false := hp
          rw [Bool.or_eq_false_iff] at hp
          exact hp.2
theorem tq_call {u p : Nat} {as : Tm} (pr : prO C M E pe sy pz pa pb) (kc : ∀ s, sChn (srO sy s) = true → kp s = true) : tq0 C M E pe sy pz pa pb kp fl mk lk wh T (.div (.index u) (.elem (.index p) as)) := by
  intro l vis lo hi rh D lv q r a z h Y hY hc hg
  obtain ⟨⟨-, pl, wf⟩, v1, v2, v3, v4, cx, cr, hx, hy, h5, ho, hT⟩ := h
  rw [kP] at hc
  rw [nQ] at hg
  rw [evP] at cr
  rw [offP] at ho
  rw [mz] at hx hy
  have hx : q + mxA as ≤ (zI z).2 := hx
  have hy : 7 + (pz.getD p (0, 0)).1 + (pz.getD p (0, 0)).2 + 3 ≤ (zI z).1 := hy
  obtain ⟨-, o2⟩ := off_app ho
  have hp : prs (gvA sy pb r (pa.getD p []) as) = false := by
    cases c : prs (gvA sy pb r (pa.getD p []) as) with
    | false => rfl
    | true => rw [c] at o2; exact nomatch o2
  obtain ⟨p1, p2, p3, p4, p5⟩ := pr p pl
  obtain ⟨qz, zl, zr, q1, hb5, dt, ec, ct, ly, ps, ap, hG, tg⟩ := cx
  have k8 : ∀ i q', (pa.getD p [])[i]? = some q' → srO sy q' ≠ 3 → srO sy q' ≠ 6 → srO sy q' ≠ 4 → srO sy q' = 8 := fun i q' hi n3 n6 n4 => by
    have := (p5 q' (List.mem_of_getElem? hi)).2
    omega
  refine ty_call (pb := pb) (f := q) (n := mxA as) hY qz ps ap ec ct hG tg q1 (by omega) (fun i i1 i2 => by rw [dt i (by omega) (by omega)]) wf (Nat.le_refl _) p4 p2 p3 (by omega) (by omega) (fun q' hq' => (p5 q' hq').1) (fun i q' hi n3 n6 n4 m hm hb => ?_) (fun i j q' q'' lt hi hj n n' => prs_i _ as i j q' q'' wf hp lt hi hj n.1 (k8 j q'' hj n'.1 n'.2.1 n'.2.2)) hc (gf_mo (p1 _ (by omega) (by omega)) fun _ _ y => y.elim) hg
  have wc : wfC sy vis (tmG as i) := by
    rcases wfA_i _ as i q' wf hi with ⟨w, -⟩ | ⟨w, -⟩ | ⟨w, -⟩ | ⟨-, -, -, w⟩
    · omega
    · omega
    · omega
    · exact w
  obtain ⟨e1, e2⟩ := ev_c (kp := kp) (m := pb q') (r := r) kc wc
  exact cr _ ((evA_i _ as i q' wf hi n3).1 _ e1) (wfC_v wc) e2 m hm hb
/-- guards' processes -/
def tq3 (C : Cx) (M : Nat) (E : En) (pe : Nat → Nat) (sy : List Sym) (pz : List (Nat × Nat)) (pa : List (List Nat)) (pb : Nat → Nat) (kp : Nat → Bool) (fl mk : Bool) (lk : List (Nat × Nat)) (wh : Option Nat) (T : Nat) (A : Tm) : Prop := ∀ l vis lo hi rh D lv q r a z, hypQ sy pz pa pb kp fl mk lk wh T A 3 l vis lo hi rh D lv q r a z → ∀ Y G' w x, clo Y → cv (zSG z G') z → eC sy vis (wdO rh D) G' → (∀ o : Int, (q : Int) ≤ o → o < (zI z).2 → (G' o).1 = 1) → gKd G' (zW z) A w → w + 2 * tmN A < 5000 → cod C pe a (kP sy pz pa A 3 rh D lv q r a w x) → gfX C M E Y x z → ∀ b m, (b, m) ∈ gLs sy pa A a → gfX C M E Y m (zSG z G')
theorem tq_g3 {u : Nat} {e c v p gs : Tm} (o : oneW E) (i1 : tq0 C M E pe sy pz pa pb kp fl mk lk wh T p) (i2 : tq3 C M E pe sy pz pa pb kp fl mk lk wh T gs) : tq3 C M E pe sy pz pa pb kp fl mk lk wh T (.elem (.div (.index u) (.elem e (.elem c (.elem v p)))) gs) := by
  intro l vis lo hi rh D lv q r a z h Y G' w x hY cvz ecG dG gk wb hc hgx b m hm
  obtain ⟨⟨we, wc, l1, k, w1, w2⟩, v1, v2, v3, v4, cx, cr, hx, hy, h5, ho, hT⟩ := h
  rw [kP] at hc
  rw [nQ] at hT
  rw [evP] at cr
  rw [offP] at ho
  rw [mz] at hx hy
  rw [tmN] at wb
  have hx : q + max (max (max (mz sy pz p 0).1 (exw e)) (max (exw c) (exw v))) (mz sy pz gs 3).1 ≤ (zI z).2 := hx
  have hy : max (mz sy pz p 0).2 (mz sy pz gs 3).2 + 3 ≤ (zI z).1 := hy
  obtain ⟨o1, o2⟩ := off_app ho
  obtain ⟨-, o1⟩ := off_app o1
  have hk : lo ≤ k ∧ k ≤ hi := ⟨wfQ.le _ _ _ _ _ _ w1, wfQ.le _ _ _ _ _ _ w2⟩
  obtain ⟨g1, g2, g3⟩ := gk
  have hc' := hc
  have ln : (if isNl c = true then [] else kA sy (wdO rh D) r v q a ++ [iV 7 (nI (w + 1)), iO 20]).length = (if isNl c then 0 else nD sy v + 2) := by
    split
    · rfl
    · rw [List.length_append, kA_len]; rfl
  rw [cod_app, cod_app, List.length_append, ln, kP_len] at hc'
  obtain ⟨⟨-, c2⟩, -, c3⟩ := hc'
  have eN : a + nB3 sy pa c v p = a + ((if isNl c then 0 else nD sy v + 2) + nQ sy pa p 0) + 1 := by unfold nB3; omega
  have hm : (b, m) ∈ (!isNl c, a) :: gLs sy pa gs (a + nB3 sy pa c v p) := hm
  have hb5 := cx.2.2.2.2.1
  rcases List.mem_cons.mp hm with y | y
  · cases y
    refine ty_g3 (w := w) (f := q) (nP := nQ sy pa p 0) hY o cx.1 cvz ecG (fun nc => ?_) (kP_len _ _ _ _ _ _ _ _ _ _) hc (fun hg => ?_) hgx
    · have wv : wfV sy vis v := by
        rcases wc with ⟨y, -⟩ | ⟨-, y⟩
        · rw [y] at nc; exact absurd nc (by decide)
        · exact y
      obtain ⟨k1, k2, k3⟩ := g2 nc
      exact ⟨wv, fun i i1 i2 => dG i (by omega) (by omega), by omega, by omega, k1, k2, k3⟩
    · exact i1 (l - 1) vis lo k rh D lv q r _ z ⟨w1, v1, by omega, v3, by omega, cx, crt_sub cr (fun e he => List.mem_append_left _ (List.mem_append_right _ he)), by omega, by omega, h5, o1, by omega⟩ Y hY c2 hg
  · refine i2 l vis k hi rh D lv q r (a + nB3 sy pa c v p) z ⟨w2, fun t ht => (v1 t ht).imp_left (fun y => by omega), v2, v3, v4, cx, crt_sub cr (fun e he => List.mem_append_right _ he), by omega, by omega, h5, o2, by omega⟩ Y G' (w + 2) x hY cvz ecG dG g3 (by omega) ?_ hgx b m y
    rw [eN]
    exact c3
theorem gsh_w {vis : List Nat} : ∀ (gs : Tm) (l lo hi : Nat), wfQ sy pa gs 3 l vis lo hi → gsh gs := by
  intro gs
  induction gs using gsh.induct with
  | case1 u e c v p gs ih =>
    intro l lo hi h
    obtain ⟨-, -, -, k, -, w2⟩ := h
    exact ih l k hi w2
  | case2 => intro _ _ _ _; trivial
  | case3 gs h1 h2 =>
    intro l lo hi h
    exfalso
    unfold wfQ at h
    split at h
    all_goals first | exact h.elim | (rename_i e0; exact absurd e0 (by decide)) | exact h1 _ _ _ _ _ _ rfl | exact h2 rfl | skip
end
