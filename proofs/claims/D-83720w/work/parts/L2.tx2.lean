/-! the least signs of what is read: statements, declarations -/
def pAs (sy : List Sym) (vis : List Nat) : Tm → Prop
  | .elem a r => shE sy vis 8 a ∧ pAs sy vis r
  | _ => True
/-- a process as it is read -/
def rdQ (sy : List Sym) : Tm → Nat → List Nat → Prop
  | .div (.index u) (.rem (.elem (.index s) (.index c)) p), 0, vis => u ≤ 3000 ∧ rdQ sy p 0 (seeS vis s c)
  | .div (.index u) (.add v e), 0, vis => u ≤ 3000 ∧ thI v = true ∧ shE sy vis 8 v ∧ shE sy vis 8 e
  | .div (.index u) (.sub v e), 0, vis => u ≤ 3000 ∧ thI v = true ∧ shE sy vis 8 v ∧ shE sy vis 8 e
  | .div (.index u) (.mul v e), 0, vis => u ≤ 3000 ∧ thI v = true ∧ shE sy vis 8 v ∧ thI e = true ∧ shE sy vis 8 e
  | .div (.index u) (.elem (.index _) as), 0, vis => u ≤ 3000 ∧ pAs sy vis as
  | .div (.index u) (.length ps), 0, vis => u ≤ 3000 ∧ rdQ sy ps 1 vis
  | .div (.index u) (.rem (.arg s) (.elem (.elem e1 e2) p)), 0, vis => (u ≤ 3000 ∧ srO sy s = 10) ∧ shE sy vis 8 e1 ∧ shE sy vis 8 e2 ∧ rdQ sy p 0 (s :: vis)
  | .div (.index u) (.sum (.elem (.index _) ps)), 0, vis => (u ≤ 3000 ∧ 1 ≤ tmN ps) ∧ rdQ sy ps 1 vis
  | .div (.index u) (.old (.elem (.index _) ps)), 0, vis => (u ≤ 3000 ∧ 1 ≤ tmN ps) ∧ rdQ sy ps 1 vis
  | .div (.index u) (.rem (.index s) (.elem (.elem (.index _) (.index m)) p)), 0, vis => (u ≤ 3000 ∧ srO sy s = 11) ∧ 1 ≤ m ∧ m ≤ 8 ∧ rdQ sy p 0 (s :: vis)
  | .div (.index u) (.rem .null gs), 0, vis => u ≤ 3000 ∧ rdQ sy gs 2 vis
  | .div (.index u) (.div e p), 0, vis => u ≤ 3000 ∧ shE sy vis 8 e ∧ rdQ sy p 0 vis
  | .div (.index u) (.rem .result gs), 0, vis => u ≤ 3000 ∧ 1 ≤ tmN gs ∧ rdQ sy gs 3 vis
  | .div (.index u) .null, 0, _ => u ≤ 3000
  | .div (.index u) .result, 0, _ => u ≤ 3000
  | .null, 1, _ => True
  | .elem p ps, 1, vis => rdQ sy p 0 vis ∧ rdQ sy ps 1 vis
  | .null, 2, _ => True
  | .elem (.elem e p) gs, 2, vis => shE sy vis 8 e ∧ rdQ sy p 0 vis ∧ rdQ sy gs 2 vis
  | .null, 3, _ => True
  | .elem (.div (.index u) (.elem e (.elem c (.elem v p)))) gs, 3, vis => u ≤ 3000 ∧ (e = .null ∨ shE sy vis 8 e) ∧ ((c = .null ∧ v = .null) ∨ (thI c = true ∧ shE sy vis 8 c ∧ thI v = true ∧ shE sy vis 8 v)) ∧ rdQ sy p 0 vis ∧ rdQ sy gs 3 vis
  | _, _, _ => False
theorem tkS_c {b : Bool} {ts r : List Tok} (h : tkS b ts = .inr r) : b = true ∧ cT ts = tc (hd ts) + cT r := by
  obtain ⟨h1, h2⟩ := tkS_ok h
  exact ⟨h1, by rw [h2]; exact cT_hd⟩
section
variable {sy syF : List Sym} {vis : List Nat} {pa : List (List Nat)}
theorem tx_arg {q : Nat} {ts : List Tok} {x : Tm × List Tok} (hE : eqV sy syF vis) (h : argS sy vis q ts = .inr x) : shE syF vis 8 x.1 ∧ cE syF x.1 + cT x.2 ≤ cT ts := by
  rw [argS] at h
  split at h
  · exact tx_exT hE (by omega) h
  split at h
  · split at h
    · obtain ⟨s, h1, h⟩ := bnd_ok h
      obtain ⟨z, h2, h⟩ := bnd_ok h
      have e := Sum.inr.inj h
      subst e
      obtain ⟨a1, a2, a3⟩ := tx_kn hE h1
      exact ⟨a2, a3⟩
    split at h
    · exact (tx_ref hE (by omega) h).2
    · exact (tx_ref hE (by omega) h).2
  · cases h
theorem tx_args (hE : eqV sy syF vis) : ∀ (qs : List Nat) (ts : List Tok) (x : Tm × List Tok), argsS sy vis qs ts = .inr x → pAs syF vis x.1 ∧ cA syF x.1 + cT x.2 ≤ cT ts + 1
  | [], ts, x, h => by
    have e := Sum.inr.inj h
    subst e
    exact ⟨trivial, by show 0 + cT ts ≤ _; omega⟩
  | [q], ts, x, h => by
    rw [argsS] at h
    obtain ⟨z, h1, h⟩ := bnd_ok h
    obtain ⟨y, h2, h⟩ := bnd_ok h
    obtain ⟨z2, h3, h⟩ := bnd_ok h
    have e := Sum.inr.inj h
    subst e
    obtain ⟨a1, a2⟩ := tx_arg hE h2
    exact ⟨⟨a1, trivial⟩, by show cE syF y.1 + 1 + 0 + cT y.2 ≤ _; omega⟩
  | q :: q2 :: qs, ts, x, h => by
    rw [argsS] at h
    obtain ⟨z, h1, h⟩ := bnd_ok h
    obtain ⟨y, h2, h⟩ := bnd_ok h
    obtain ⟨z2, h3, h⟩ := bnd_ok h
    obtain ⟨r, h4, h⟩ := bnd_ok h
    obtain ⟨w, h5, h⟩ := bnd_ok h
    have e := Sum.inr.inj h
    subst e
    obtain ⟨a1, a2⟩ := tx_arg hE h2
    obtain ⟨b1, b2⟩ := tx_args hE (q2 :: qs) r w h5
    obtain ⟨c1, c2⟩ := tkS_c h4
    have c3 := isS_c c1
    exact ⟨⟨a1, b1⟩, by show cE syF y.1 + 1 + cA syF w.1 + cT w.2 ≤ _; omega⟩
theorem tx_stm {lv u : Nat} {ts : List Tok} {x : Tm} (hE : eqV sy syF vis) (hu : u ≤ 3000) (h : stmS pa sy vis ts = .inr x) : rdQ syF (.div (.index u) x) 0 vis ∧ cQ syF (.div (.index u) x) 0 lv ≤ 2 * lv + cT ts + 1 := by
  rw [stmS] at h
  obtain ⟨n, h1, h⟩ := bnd_ok h
  obtain ⟨n1, n2, n3⟩ := tx_kn hE h1
  have nn : 1 ≤ ncs syF n.1 := nc_1 _
  split at h
  · rename_i h40
    rw [calS] at h
    obtain ⟨z, h2, h⟩ := bnd_ok h
    obtain ⟨y, h3, h⟩ := bnd_ok h
    obtain ⟨r, h4, h⟩ := bnd_ok h
    obtain ⟨z2, h5, h⟩ := bnd_ok h
    have e := Sum.inr.inj h
    subst e
    obtain ⟨a1, a2⟩ := tx_args hE _ _ _ h3
    obtain ⟨c1, c2⟩ := tkS_c h4
    have c3 := isS_c c1
    have c4 := isS_c h40
    have c5 := cT_hd (ts := n.2)
    refine ⟨⟨hu, a1⟩, ?_⟩
    show 2 * lv + 3 + cA syF y.1 ≤ _
    omega
  · obtain ⟨v, h2, h⟩ := bnd_ok h
    obtain ⟨v1, v2, v3⟩ := tx_thOf (tx_exp hE _) (by omega) n2 (hE _ n1) h2
    have c5 := cT_hd (ts := v.2)
    split at h
    · rename_i hs
      obtain ⟨z, h3, h⟩ := bnd_ok h
      obtain ⟨e, h4, h⟩ := bnd_ok h
      obtain ⟨z2, h5, h⟩ := bnd_ok h
      have ee := Sum.inr.inj h
      subst ee
      obtain ⟨a1, a2⟩ := tx_exT hE (by omega) h4
      have c3 := isS_c2 hs (by omega)
      refine ⟨⟨hu, v1, v2, a1⟩, ?_⟩
      show 2 * lv + 3 + cE syF v.1 + cE syF e.1 ≤ _
      omega
    split at h
    · rename_i hs
      obtain ⟨z, h3, h⟩ := bnd_ok h
      obtain ⟨e, h4, h⟩ := bnd_ok h
      obtain ⟨z2, h5, h⟩ := bnd_ok h
      have ee := Sum.inr.inj h
      subst ee
      obtain ⟨a1, a2⟩ := tx_exT hE (by omega) h4
      have c3 := isS_c hs
      refine ⟨⟨hu, v1, v2, a1⟩, ?_⟩
      show 2 * lv + 2 + cE syF v.1 + cE syF e.1 ≤ _
      omega
    split at h
    · rename_i hs
      obtain ⟨z, h3, h⟩ := bnd_ok h
      obtain ⟨e, h4, h⟩ := bnd_ok h
      obtain ⟨z2, h5, h⟩ := bnd_ok h
      have ee := Sum.inr.inj h
      subst ee
      obtain ⟨a0, a1, a2⟩ := tx_ref hE (by omega) h4
      have c3 := isS_c hs
      refine ⟨⟨hu, v1, v2, a0, a1⟩, ?_⟩
      show 2 * lv + 2 + cE syF v.1 + cE syF e.1 ≤ _
      omega
    · cases h
theorem shE_nn {D : Nat} {e : Tm} (h : shE sy vis D e) : e ≠ .null := by rintro rfl; exact h
theorem thI_nn {e : Tm} (h : thI e = true) : e ≠ .null := by rintro rfl; cases h
theorem tx_grd {ts : List Tok} {x : Tm × Tm × Tm} (hE : eqV sy syF vis) (h : grdS sy vis ts = .inr x) : (x.1 = .null ∨ shE syF vis 8 x.1) ∧ ((x.2.1 = .null ∧ x.2.2 = .null) ∨ (thI x.2.1 = true ∧ shE syF vis 8 x.2.1 ∧ thI x.2.2 = true ∧ shE syF vis 8 x.2.2)) ∧ cGd syF x.1 x.2.1 x.2.2 ≤ cT ts := by
  rw [grdS] at h
  obtain ⟨y, h1, h⟩ := bnd_ok h
  have key : (∀ e, y.1 = some e → shE syF vis 8 e ∧ cE syF e + cT y.2.2 ≤ cT ts) ∧ (y.1 = none → thI y.2.1 = true ∧ shE syF vis 8 y.2.1 ∧ cE syF y.2.1 + cT y.2.2 ≤ cT ts) := by
    split at h1
    · obtain ⟨c, h2, h1⟩ := bnd_ok h1
      obtain ⟨d1, d2, d3⟩ := tx_thT hE (by omega) h2
      split at h1
      · obtain ⟨z, h3, h1⟩ := bnd_ok h1
        obtain ⟨e, h4, h1⟩ := bnd_ok h1
        have ee := Sum.inr.inj h1
        subst ee
        obtain ⟨b1, b2⟩ := tx_beh (br := 0) hE (tx_exp hE _) (by omega) ⟨thI_op d1, d2⟩ h4
        refine ⟨fun e' he => ?_, fun hn => by cases hn⟩
        cases he
        exact ⟨b1, by dsimp only; omega⟩
      · have ee := Sum.inr.inj h1
        subst ee
        exact ⟨fun e he => by { cases he }, fun _ => ⟨d1, d2, d3⟩⟩
    · obtain ⟨e, h2, h1⟩ := bnd_ok h1
      have ee := Sum.inr.inj h1
      subst ee
      refine ⟨fun e' he => ?_, fun hn => by cases hn⟩
      cases he
      exact tx_exT hE (by omega) h2
  obtain ⟨y1, y2, y3⟩ := y
  cases y1 with
  | some e =>
    obtain ⟨he, hc⟩ := key.1 e rfl
    dsimp only at h hc
    obtain ⟨r, h2, h⟩ := bnd_ok h
    obtain ⟨c1, c2⟩ := tkS_c h2
    have c3 := isS_c c1
    split at h
    · rename_i h7
      obtain ⟨z, h3, h⟩ := bnd_ok h
      have ee := Sum.inr.inj h
      subst ee
      have c4 : tc (hd r) = 4 := isW_c h7
      have c5 := cT_hd (ts := r)
      refine ⟨Or.inr he, Or.inl ⟨rfl, rfl⟩, ?_⟩
      unfold cGd
      rw [if_neg (shE_nn he), if_pos rfl]
      dsimp only
      omega
    · obtain ⟨c, h3, h⟩ := bnd_ok h
      obtain ⟨r2, h4, h⟩ := bnd_ok h
      obtain ⟨v, h5, h⟩ := bnd_ok h
      obtain ⟨z, h6, h⟩ := bnd_ok h
      have ee := Sum.inr.inj h
      subst ee
      obtain ⟨a1, a2, a3⟩ := tx_ref hE (by omega) h3
      obtain ⟨b1, b2, b3⟩ := tx_ref hE (by omega) h5
      obtain ⟨c4, c5⟩ := tkS_c h4
      have c6 := isS_c c4
      refine ⟨Or.inr he, Or.inr ⟨a1, a2, b1, b2⟩, ?_⟩
      unfold cGd
      rw [if_neg (shE_nn he), if_neg (thI_nn a1)]
      dsimp only
      omega
  | none =>
    obtain ⟨d1, d2, d3⟩ := key.2 rfl
    dsimp only at h d1 d2 d3
    obtain ⟨r2, h2, h⟩ := bnd_ok h
    obtain ⟨z, h3, h⟩ := bnd_ok h
    obtain ⟨v, h5, h⟩ := bnd_ok h
    obtain ⟨z, h6, h⟩ := bnd_ok h
    have ee := Sum.inr.inj h
    subst ee
    obtain ⟨b1, b2, b3⟩ := tx_ref hE (by omega) h5
    obtain ⟨c4, c5⟩ := tkS_c h2
    have c6 := isS_c c4
    refine ⟨Or.inl rfl, Or.inr ⟨d1, d2, b1, b2⟩, ?_⟩
    unfold cGd
    rw [if_pos rfl, if_neg (thI_nn d1)]
    dsimp only
    omega
end
theorem tx_new {fr k z : Nat} {sy : List Sym} {ts : List Tok} {x : List Sym × List Tok} (hl : sy.length ≤ 200) (h : newS fr k z sy ts = .inr x) : ∀ syF, sX x.1 syF → ncs syF sy.length + cT x.2 ≤ cT ts := by
  have w := wf_new hl h
  rw [newS] at h
  split at h
  · rename_i h1
    split at h
    · cases h
    split at h
    · cases h
    · have e := Sum.inr.inj h
      subst e
      intro syF hF
      have e2 : syO syF sy.length = ((hd ts).2.2.2, k, z) := by
        rw [syO_ex hF (Or.inl (by simp)) (by simp; omega)]
        exact syO_app w.1
      rw [ncs, e2, cT_hd (ts := ts), tc, if_pos h1]
      exact Nat.le_refl _
  · cases h
theorem cN_f (sy : List Sym) (s : Nat) : ∀ c, cN sy s (c + 1) = ncs sy s + 1 + cN sy (s + 1) c
  | 0 => by show 0 + ncs sy (s + 0) + 1 = ncs sy s + 1 + 0; simp
  | c + 1 => by
    show cN sy s (c + 1) + ncs sy (s + (c + 1)) + 1 = ncs sy s + 1 + (cN sy (s + 1) c + ncs sy (s + 1 + c) + 1)
    rw [cN_f sy s c, show s + (c + 1) = s + 1 + c by omega]
    omega
theorem tx_nms {fr k z : Nat} : ∀ (m : Nat) (sy : List Sym) (ts : List Tok) (x : List Sym × List Tok), sy.length ≤ 200 → nmsS fr k z m sy ts = .inr x → ∀ syF, sX x.1 syF → cN syF sy.length (x.1.length - sy.length) + cT x.2 ≤ cT ts + 1 := by
  intro m
  induction m with
  | zero => intro sy ts x _ h; cases h
  | succ m ih =>
    intro sy ts x hl h syF hF
    have w := wf_nms (m + 1) sy ts x hl h
    rw [nmsS] at h
    obtain ⟨y, h1, h⟩ := bnd_ok h
    obtain ⟨hl2, cs, hy⟩ := wf_new hl h1
    have ey : y.1.length = sy.length + 1 := by rw [hy]; simp
    split at h
    · rename_i h44
      have w2 := wf_nms m y.1 _ x (by omega) h
      have i1 := ih y.1 _ x (by omega) h syF hF
      have n1 := tx_new hl h1 syF (w2.2.2.1.tr hF)
      have c1 := isS_c h44
      have c2 := cT_hd (ts := y.2)
      rw [show x.1.length - sy.length = (x.1.length - y.1.length) + 1 by omega, cN_f]
      rw [ey] at i1 ⊢
      omega
    · have e := Sum.inr.inj h
      subst e
      have n1 := tx_new hl h1 syF hF
      rw [show y.1.length - sy.length = 0 + 1 by omega]
      show 0 + ncs syF sy.length + 1 + cT y.2 ≤ _
      omega
theorem numS_c {lo hi : Nat} {ts : List Tok} {x : Nat × List Tok} (h : numS lo hi ts = .inr x) : 1 + cT x.2 ≤ cT ts := by
  rw [numS] at h
  split at h
  · rename_i hq
    have e := Sum.inr.inj h
    subst e
    have := cT_hd (ts := ts)
    have h1 : tc (hd ts) = 1 := by rw [tc, if_neg (by omega), if_neg (by omega), if_pos hq.1]
    dsimp only
    omega
  · cases h
theorem tx_dec {lv : Nat} {sy sy2 : List Sym} {ts : List Tok} (hl : sy.length ≤ 200) (h : decS sy ts = .inr sy2) : ∀ syF, sX sy2 syF → 2 * lv + 4 + (if 0 < szO syF sy.length then 3 else 0) + cN syF sy.length (sy2.length - sy.length) ≤ 2 * lv + cT ts + 1 := by
  intro syF hF
  rw [decS] at h
  obtain ⟨z, h1, h⟩ := bnd_ok h
  obtain ⟨r, h2, h⟩ := bnd_ok h
  obtain ⟨y, h3, h⟩ := bnd_ok h
  obtain ⟨r2, h4, h⟩ := bnd_ok h
  obtain ⟨u, h5, h⟩ := bnd_ok h
  have e := Sum.inr.inj h
  subst e
  obtain ⟨w1, w2, w3, w4⟩ := wf_nms _ _ _ _ hl h3
  have hz : szO syF sy.length = z.1 := by
    rw [szO, syO_ex hF (Or.inl w2) w1]
    exact (w4 sy.length (Nat.le_refl _) w2).2
  have n1 := tx_nms _ _ _ _ hl h3 syF hF
  obtain ⟨c1, c2⟩ := tkS_c h2
  obtain ⟨c3, c4⟩ := tkS_c h4
  have c5 := isS_c c3
  have c6 : 3 ≤ tc (hd z.2) := by
    rw [Bool.or_eq_true] at c1
    rcases c1 with c1 | c1
    · rw [isW_c c1]; decide
    · rw [isW_c c1]; decide
  have c7 : (if 0 < z.1 then 3 else 0) + cT z.2 ≤ cT ts := by
    split at h1
    · rename_i h91
      obtain ⟨x, h6, h1⟩ := bnd_ok h1
      obtain ⟨r3, h7, h1⟩ := bnd_ok h1
      have e := Sum.inr.inj h1
      subst e
      have d1 := numS_c h6
      obtain ⟨d2, d3⟩ := tkS_c h7
      have d4 := isS_c d2
      have d5 := isS_c h91
      have d6 := cT_hd (ts := ts)
      dsimp only
      split <;> omega
    · have e := Sum.inr.inj h1
      subst e
      show (if 0 < 0 then 3 else 0) + cT ts ≤ cT ts
      rw [if_neg (by omega)]
      omega
  rw [hz]
  omega
