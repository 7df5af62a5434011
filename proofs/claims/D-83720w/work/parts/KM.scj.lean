/-! (S): processes: ALT, branches -/
section
variable {C : Cx} {M : Nat} {E : En} {pe : Nat → Nat} {sy : List Sym} {pz : List (Nat × Nat)} {pa : List (List Nat)} {pb : Nat → Nat} {kp : Nat → Bool} {fl mk : Bool} {lk : List (Nat × Nat)} {wh : Option Nat} {T : Nat}
theorem ctx_mo {vis : List Nat} {wd : Nat → Int32} {z : Sg} {q q' : Nat} (cx : ctxP sy vis wd z q) (h : q ≤ q') : ctxP sy vis wd z q' := by
  obtain ⟨qz, zl, zr, q1, h5, dt, ec, ct, ly, ps, ap, hG, tg⟩ := cx
  exact ⟨qz, zl, zr, by omega, h5, fun o o1 o2 => dt o (by omega) o2, ec, ct, fun s hs n1 n11 i hi => (ly s hs n1 n11 i hi).imp_left (fun y => by omega), ps, ap, hG, tg⟩
theorem nl_ne {e : Tm} (h : isNl e = false) : e ≠ .null := fun y => by rw [y] at h; exact absurd h (by decide)
theorem gRd_w {vis : List Nat} {rh : Nat → Nat × Nat} {D : Nat → Int32} {r : Nat → Int32} {z : Sg} {n : Nat} (kc : ∀ s, sChn (srO sy s) = true → kp s = true) : ∀ (gs : Tm) (l lo hi : Nat), wfQ sy pa gs 3 l vis lo hi → crt sy vis (wdO rh D) z (evP kp fl sy pb pa gs 3 r) → (mz sy pz gs 3).1 ≤ n → gRd sy vis (wdO rh D) r (zG z) (zW z) n gs := by
  intro gs
  induction gs using gsh.induct with
  | case1 u e c v p gs ih =>
    intro l lo hi h cr hn
    obtain ⟨we, wc, -, k, -, w2⟩ := h
    rw [evP] at cr
    rw [mz] at hn
    have hn : max (max (max (mz sy pz p 0).1 (exw e)) (max (exw c) (exw v))) (mz sy pz gs 3).1 ≤ n := hn
    refine ⟨fun ne => ?_, fun nc => ?_, ih l k hi w2 (crt_sub cr fun e he => List.mem_append_right _ he) (by omega)⟩
    · rcases we with ⟨y, -⟩ | y
      · exact (nl_ne ne y).elim
      · exact ⟨y.1, by omega⟩
    · rcases wc with ⟨y, -⟩ | ⟨y, -⟩
      · exact (nl_ne nc y).elim
      · obtain ⟨e1, e2⟩ := ev_c (kp := kp) (m := 8) (r := r) kc y
        exact ⟨y, by omega, cr _ (List.mem_append_left _ (List.mem_append_left _ (List.mem_append_right _ (List.mem_append_left _ e1)))) (wfC_v y) e2 8 (Or.inr rfl) (show (8 : Nat) &&& 8 ≠ 0 by decide)⟩
  | case2 => intro l lo hi _ _ _; trivial
  | case3 gs h1 h2 =>
    intro l lo hi _ _ _
    unfold gRd
    split
    · exact (h1 _ _ _ _ _ _ rfl).elim
    · trivial
theorem tq_alt {u : Nat} {gs : Tm} (o : oneW E) (kc : ∀ s, sChn (srO sy s) = true → kp s = true) (pm : plm C T) (ih : tq3 C M E pe sy pz pa pb kp fl mk lk wh T gs) : tq0 C M E pe sy pz pa pb kp fl mk lk wh T (.div (.index u) (.rem .result gs)) := by
  intro l vis lo hi rh D lv q r a z h Y hY hc hg
  obtain ⟨⟨g1, g8, l1, wg⟩, v1, v2, v3, v4, cx, cr, hx, hy, h5, ho, hT⟩ := h
  rw [kP] at hc
  rw [nQ] at hg hT
  rw [evP] at cr
  rw [offP] at ho
  rw [mz] at hx hy
  have hx : q + ((mz sy pz gs 3).1 + 2 * tmN gs) ≤ (zI z).2 := hx
  have cx' := cx
  obtain ⟨qz, zl, zr, q1, hb5, dt, ec, ct, ly, ps, ap, hG, tg⟩ := cx
  have sh := gsh_w gs _ _ _ wg
  refine ty_alt (pa := pa) (f := q + 2 * tmN gs) (n := (mz sy pz gs 3).1) (T := T) (bs := a + nH1 sy gs + nH2 gs + nH3 gs + 3) o qz zl sh g1 q1 (by omega) rfl (by omega) (by omega) (by omega) ly ec (gRd_w (pz := pz) (fl := fl) (pb := pb) kc gs _ _ _ wg cr (Nat.le_refl _)) (fun o o1 o2 => by rw [dt o o1 o2]) tg rfl (by omega) (fun i h1 h2 => pm _ i h1 h2) hc (fun G' k1 k3 b m hm => ?_)
  have hc' := hc
  rw [cod_app, kH1_len] at hc'
  have c3 := hc'.2.2
  rw [cod_app, kH2_len] at c3
  have c5 := c3.2.2
  rw [cod_app, kH3_len] at c5
  have c6 := c5.2.2
  rw [show a + nH1 sy gs + 1 + nH2 gs + 1 + nH3 gs + 1 = a + nH1 sy gs + nH2 gs + nH3 gs + 3 by omega] at c6
  have ag : ∀ o : Int, o < q ∨ (zI z).2 ≤ o → G' o = zG z o := fun o ho => k1 o (by omega)
  have cvz : cv (zSG z G') z := by
    refine ⟨rfl, rfl, rfl, rfl, rfl, qz.1, qz.2.2, qz.2.1, fun o => ?_, fun o h15 => by have := tg o; omega⟩
    show zG z o = G' o ∨ (zG z o).1 = 0 ∨ ((zG z o).1 = 1 ∧ 0 < o ∧ o < (((zI z).2 : Nat) : Int))
    by_cases h : (q : Int) ≤ o ∧ o < q + 2 * tmN gs
    · exact Or.inr (Or.inr ⟨by rw [dt o h.1 (by omega)], by omega, by omega⟩)
    · exact Or.inl (k1 o h).symm
  exact ih (l - 1) vis lo hi rh D lv (q + 2 * tmN gs) r (a + nH1 sy gs + nH2 gs + nH3 gs + 3) z ⟨wg, v1, v2, v3, by omega, ctx_mo cx' (by omega), cr, by omega, hy, h5, ho, by omega⟩ Y G' q _ hY cvz (eC_mv ly ag ec) (fun o o1 o2 => by rw [k1 o (by omega), dt o (by omega) o2]) k3 (by omega) c6 (by rw [show a + nH1 sy gs + nH2 gs + nH3 gs + 3 + nQ sy pa gs 3 = a + (nH1 sy gs + nH2 gs + nH3 gs + 3 + nQ sy pa gs 3) by omega]; exact hg) b m hm
/-- one branch -/
theorem ty_br {p : Tm} {l lo hi lv q d lc hc a st : Nat} {vis : List Nat} {rh : Nat → Nat × Nat} {D : Nat → Int32} {r : Nat → Int32} {z : Sg} {Y : Nat → Sg → Prop} {mw : Int → Nat} {mr : Nat → Nat} (ip : tq0 C M E pe sy pz pa pb kp fl mk lk wh T p) (hY : clo Y) (wf : wfQ sy pa p 0 l vis lo hi) (v1 : ∀ t ∈ vis, t < lo ∨ 200 ≤ t) (v2 : hi ≤ 200) (v3 : lvC sy vis rh D lv) (v4 : l + (lv + 1) ≤ 17) (cx : ctxP sy vis (wdO rh D) z q) (q3 : q + 3 ≤ (zI z).2) (mk' : mOK sy vis (wdO rh D) (evP kp fl sy pb pa p 0 r) mw mr) (ho : offP kp fl mk sy pb pa lk wh p 0 r = []) (hT : a + nQ sy pa p 0 ≤ T)
    (d1 : d ≤ 5000) (eh : hc = 1 + (mz sy pz p 0).1) (el : lc = (mz sy pz p 0).2 + 3) (l5 : lc ≤ 5000) (dh : hc + 3 ≤ d) (hcd : cod C pe a (kP sy pz pa p 0 rh (shD D lv d) (lv + 1) 1 r a 0 0 ++ iV 1 (D lv + nI d + nI q) :: [iO 17])) : gfX C M E Y a (bZ0 z q d lc hc mw mr) := by
  have wd1 : ∀ s ∈ vis, srO sy s ≠ 1 → srO sy s ≠ 11 → (wdO rh (shD D lv d) s).toInt = (wdO rh D s).toInt + d := fun s hs n1 n11 => by
    obtain ⟨u1, u2⟩ := v3.2 s hs n1 n11
    have p := cx.2.2.2.2.2.2.2.2.2.1 s hs n1 n11
    have e : wdO rh (shD D lv d) s = wdO rh D s + nI d := by
      unfold wdO shD
      rw [if_neg (by omega), Int32.add_assoc, Int32.add_comm (nI d), ← Int32.add_assoc]
    rw [e, i_add rfl (nI_toInt (by omega)) (by omega) (by omega)]
  rw [cod_app, kP_len] at hcd
  have hb5 := cx.2.2.2.2.1
  refine gf_cv hY (ip l vis lo hi rh (shD D lv d) (lv + 1) 1 r a (bZ z q d lc hc mw mr) ⟨wf, v1, v2, ⟨?_, fun t ht n1 n11 => ?_⟩, v4, br_cx cx q3 dh (by omega) wd1 (fun s hs n1 n11 => ?_), br_cr cx q3 dh wd1 mk', ?_, ?_, ?_, ho, hT⟩ Y hY hcd.1 (gf_ru ?_)) cv_bZ
  · unfold shD; rw [if_pos rfl]
  · obtain ⟨u1, u2⟩ := v3.2 t ht n1 n11
    rw [wd1 t ht n1 n11]
    exact ⟨by omega, by omega⟩
  · obtain ⟨u1, u2⟩ := v3.2 s hs n1 n11
    rw [wd1 s hs n1 n11]
    omega
  · show 1 + (mz sy pz p 0).1 ≤ hc; omega
  · show (mz sy pz p 0).2 + 3 ≤ lc; omega
  · show lc ≤ 5000; exact l5
  · have vI : (D lv + nI d + nI q).toInt = (d : Int) + q := by
      rw [v3.1, Int32.zero_add, i_add (nI_toInt (by omega)) (nI_toInt (by omega)) (by omega) (by omega)]
    refine i_ldlp (v := D lv + nI d + nI q) (z := bZ z q d lc hc mw mr) (b := k0) (c := k0) hcd.2.1 (by rw [vI]; omega) (by rw [vI]; omega) (gf_ru ?_) (Or.inr rfl) (Or.inr rfl)
    rw [vI]
    exact i_endp (z := zSA (bZ z q d lc hc mw mr) ((2, 0, (d : Int) + q), k0, k0)) (d := (d : Int)) (q := (q : Int)) hcd.2.2.1 rfl rfl rfl rfl
theorem mtK_sy {k k' : Ky} (h : mtK k k' = true) : mtK k' k = true ∧ k.1 = k'.1 := by
  unfold mtK at h ⊢
  rw [Bool.and_eq_true, beq_iff_eq] at h
  refine ⟨?_, h.1⟩
  rw [Bool.and_eq_true, beq_iff_eq]
  refine ⟨h.1.symm, ?_⟩
  have h2 := h.2
  simp only [Bool.or_eq_true, beq_iff_eq] at h2 ⊢
  rcases h2 with (y | y) | y
  · exact Or.inl (Or.inr y)
  · exact Or.inl (Or.inl y)
  · exact Or.inr y.symm
theorem brAp_sy {B B' : Br} (h : brAp B B') : brAp B' B := ⟨h.1.symm, fun r hr => ⟨fun o o' e a b => (h.2 r hr).1 o' o e.symm b a, fun c hc a b => (h.2 r hr).2 c hc b a⟩⟩
/-- branches of a PAR -/
def bX (sy : List Sym) (vis : List Nat) (wd : Nat → Int32) (z : Sg) (q b : Nat) (G : Sg → Nat → Prop) (X : Br × List Ev) : Prop := ∃ d lc hc mw mr st rw, X.1 = (d, st, rw, bZ0 z q d lc hc mw mr) ∧ mOK sy vis wd X.2 mw mr ∧ b + hc ≤ d ∧ 3 ≤ lc ∧ 1 ≤ hc ∧ hc + 3 ≤ d ∧ d + lc ≤ (zI z).1 ∧ d ≤ 5000 ∧ G (bZ0 z q d lc hc mw mr) st
def tq4 (C : Cx) (M : Nat) (E : En) (pe : Nat → Nat) (sy : List Sym) (pz : List (Nat × Nat)) (pa : List (List Nat)) (pb : Nat → Nat) (kp : Nat → Bool) (fl mk : Bool) (lk : List (Nat × Nat)) (wh : Option Nat) (T : Nat) (A : Tm) : Prop := ∀ l vis lo hi rh D lv q r a z, wfQ sy pa A 1 l vis lo hi → (∀ t ∈ vis, t < lo ∨ 200 ≤ t) → hi ≤ 200 → lvC sy vis rh D lv → l + (lv + 1) ≤ 17 → ctxP sy vis (wdO rh D) z q → q + 3 ≤ (zI z).2 → (zI z).1 ≤ 5000 → offP kp fl mk sy pb pa lk wh A 1 r = [] → a + nQ sy pa A 4 ≤ T → ∀ Y b a0 pri pre g, clo Y → 3 ≤ b → b + (mz sy pz A 4).2 ≤ (zI z).1 → cod C pe a (kP sy pz pa A 4 rh D lv q r a b q) → (∀ t ∈ vis, g t = true) → clB g pre (brs kp fl sy pb pa A r) = false →
  ∃ Bs : List (Br × List Ev), stB a0 (Bs.map fun X => X.1) = hB sy pz pa pri A a0 a b ∧ Bs.length = tmN A ∧ (∀ X ∈ Bs, bX sy vis (wdO rh D) z q b (fun z j => gfX C M E Y j z) X ∧ (∀ e ∈ X.2, ∀ e' ∈ pre, e.1.1 ∈ vis → mtK e.1 e'.1 = true → e.2 &&& e'.2 &&& 12 = 0) ∧ (∀ e ∈ X.2, e ∈ evP kp fl sy pb pa A 1 r)) ∧ Bs.Pairwise (fun X X' => brAp X.1 X'.1) ∧ (pri = false → ∀ X ∈ Bs, X.1.2.2.1 ≠ 0) ∧ (2 ≤ tmN A → ∃ X ∈ Bs, X.1.2.2.1 ≠ 0)
theorem mcl_12 {a b : Nat} (h : mcl a b = false) : a &&& b &&& 12 = 0 := by
  unfold mcl at h
  rw [Bool.or_eq_false_iff] at h
  have := h.2
  simpa using this
theorem tq_br {p ps : Tm} (i1 : tq0 C M E pe sy pz pa pb kp fl mk lk wh T p) (i2 : tq4 C M E pe sy pz pa pb kp fl mk lk wh T ps) : tq4 C M E pe sy pz pa pb kp fl mk lk wh T (.elem p ps) := by
  intro l vis lo hi rh D lv q r a z wf v1 v2 v3 v4 cx q3 h5 ho hT Y b a0 pri pre g hY b3 hb hc hg hcl
  obtain ⟨m, w1, w2⟩ := wf
  have hm : lo ≤ m ∧ m ≤ hi := ⟨wfQ.le _ _ _ _ _ _ w1, wfQ.le _ _ _ _ _ _ w2⟩
  rw [kP] at hc
  rw [nQ] at hT
  rw [offP] at ho
  rw [mz] at hb
  have hb : b + ((1 + (mz sy pz p 0).1 + (mz sy pz p 0).2 + 3) + (mz sy pz ps 4).2) ≤ (zI z).1 := hb
  obtain ⟨o1, o2⟩ := off_app ho
  have ebk : blk sy pz p = 1 + (mz sy pz p 0).1 + (mz sy pz p 0).2 + 3 := rfl
  have hc' : cod C pe a (kP sy pz pa p 0 rh (shD D lv (b + 1 + (mz sy pz p 0).1)) (lv + 1) 1 r a 0 0 ++ ([iV 1 (D lv + nI (b + 1 + (mz sy pz p 0).1) + nI q), iO 17] ++ kP sy pz pa ps 4 rh D lv q r (a + nQ sy pa p 0 + 2) (b + blk sy pz p) q)) := hc
  rw [← List.append_assoc, cod_app, List.length_append, kP_len] at hc'
  obtain ⟨c1, c2⟩ := hc'
  have c2 : cod C pe (a + (nQ sy pa p 0 + 2)) (kP sy pz pa ps 4 rh D lv q r (a + nQ sy pa p 0 + 2) (b + blk sy pz p) q) := c2
  rw [show a + (nQ sy pa p 0 + 2) = a + nQ sy pa p 0 + 2 by omega] at c2
  have hcl : (cls g (evP kp fl sy pb pa p 0 r) pre || clB g (pre ++ evP kp fl sy pb pa p 0 r) (brs kp fl sy pb pa ps r)) = false := hcl
  rw [Bool.or_eq_false_iff] at hcl
  obtain ⟨Bs, b1, b2, b3', b4, b5, -⟩ := i2 l vis m hi rh D lv q r (a + nQ sy pa p 0 + 2) z w2 (fun t ht => (v1 t ht).imp_left (fun y => by omega)) v2 v3 v4 cx q3 h5 o2 (by omega) Y (b + blk sy pz p) (a0 + 4) false (pre ++ evP kp fl sy pb pa p 0 r) g hY (by omega) (by omega) c2 hg hcl.2
  obtain ⟨mw, mr, mo⟩ := mOK_ex sy vis (wdO rh D) (evP kp fl sy pb pa p 0 r)
  have gb := ty_br (Y := Y) (d := b + 1 + (mz sy pz p 0).1) (lc := (mz sy pz p 0).2 + 3) (hc := 1 + (mz sy pz p 0).1) (st := a) i1 hY w1 v1 (by omega) v3 v4 cx q3 mo o1 (by omega) (by omega) rfl rfl (by omega) (by omega) c1
  have nc0 : ∀ e ∈ evP kp fl sy pb pa p 0 r, ∀ e' ∈ pre, e.1.1 ∈ vis → mtK e.1 e'.1 = true → e.2 &&& e'.2 &&& 12 = 0 := fun e he e' he' hv ht => by
    have h0 := hcl.1
    unfold cls at h0
    rw [List.any_eq_false] at h0
    have h1 := h0 e he
    rw [Bool.not_eq_true, List.any_eq_false] at h1
    have h2 := h1 e' he'
    rw [hg _ hv, ht, Bool.true_and, Bool.true_and, Bool.not_eq_true] at h2
    exact mcl_12 h2
  refine ⟨((b + 1 + (mz sy pz p 0).1, a, if pri then 0 else 1, bZ0 z q (b + 1 + (mz sy pz p 0).1) ((mz sy pz p 0).2 + 3) (1 + (mz sy pz p 0).1) mw mr), evP kp fl sy pb pa p 0 r) :: Bs, ?_, ?_, fun X hX => ?_, ?_, fun hp X hX => ?_, fun h2 => ?_⟩
  · rw [hB, List.map_cons, stB, ← b1]
    unfold hB1
    cases pri <;> rfl
  · rw [List.length_cons, b2, tmN]
  · rcases List.mem_cons.mp hX with y | y
    · subst y
      exact ⟨⟨_, _, _, mw, mr, a, _, rfl, mo, by omega, by omega, by omega, by omega, by omega, by omega, gb⟩, nc0, fun e he => by rw [evP]; exact List.mem_append_left _ he⟩
    · obtain ⟨⟨d, lc, hc, mw', mr', st, rw, y1, y2, y3, y4⟩, y5, y6⟩ := b3' X y
      exact ⟨⟨d, lc, hc, mw', mr', st, rw, y1, y2, by omega, y4⟩, fun e he e' he' => y5 e he e' (List.mem_append_left _ he'), fun e he => by rw [evP]; exact List.mem_append_right _ (y6 e he)⟩
  · rw [List.pairwise_cons]
    refine ⟨fun X hX => ?_, b4⟩
    obtain ⟨⟨d, lc, hc, mw', mr', st, rw', y1, y2, y3, y4⟩, y5, y6⟩ := b3' X hX
    rw [y1]
    exact br_ap cx.2.2.2.2.2.2.2.2.2.2.1 mo y2 (fun e he e' he' hv _ ht => by
      obtain ⟨t1, t2⟩ := mtK_sy ht
      have := y5 e' he' e (List.mem_append_right _ he) (by rw [← t2]; exact hv) t1
      rw [Nat.and_comm e.2]
      exact this) (Or.inl (by omega))
  · rcases List.mem_cons.mp hX with y | y
    · subst y
      show (if pri = true then 0 else 1) ≠ 0
      rw [hp]
      decide
    · exact b5 rfl X y
  · rw [tmN] at h2
    cases hB' : Bs with
    | nil => rw [hB'] at b2; have : 0 = tmN ps := b2; omega
    | cons X L => exact ⟨X, by simp, b5 rfl X (by rw [hB']; exact List.mem_cons_self)⟩
end
