/-! calls in the thrown step, and the induction -/
section Sound
variable {p : Program} {l : Launch} {e : Env} {R : Room} {s : State} {m : MethodId} {args : Array Value} {below : List Frame} {meth : Method} {c : Code} {dC : Nat → ClassId} {dI : Nat → Nat → Nat} {ad : Nat → Nat → Nat} {cA : Nat → ClassId} {E : State → Prop} {mi d pc x mj nest : Nat} {as r : List mj_V} {h h' : mj_H} {v : Option mj_V} {ls : Array Slot} {H : Heap} {locs : List Loc}
theorem mw_runSR (X : mw_cx dC dI cA p s m args meth c mi) (hR : (mw_rm d).frames + 1 ≤ R.frames ∧ 8 + (mw_l mj + 11) + (mw_rm d).locals ≤ R.locals) (hE : E s) (hEm : ∀ u U : State, u.WarmedH U.vm → (∀ q, q < u.heap.size → ¬ mw_A ad q → U.heap[q]? = u.heap[q]?) → E u → E U) (hd : decode (mw_b mi) pc = .ok (.invokestatic x, 3)) (hmj : mj < 366) (hst : Cond.static (mw_y mj) ∈ mw_good) (hini : Cond.initialized (mw_y mj).cls ∈ mw_good) (hcode : mw_codeC mj ∈ mw_good) (hlink : mw_ML (mw_mc mi) x mj nest)
    (hM : Met l (mw_y mj) (mw_wsm mj) (mw_rm d) (mw_Pc dC dI ad cA E as h) (mw_Qc dC dI ad cA E v h') 0 0 (mw_A ad)) (hlen : as.length = mw_na mj) (hr8 : mj_wd r ≤ 8) (hls : ls.size = mw_l mi) (hP : va_P (dC, dI) mw_cl (mw_ws ad cA h) H) (hS : va_S (mw_A ad) s.heap H locs) :
    va_Run p l e R s m args below meth c H locs 0 0 0 0 (F0 m pc ls ((as.map (mw_v ad)).reverse ++ r.map (mw_v ad))) (r.map (mw_v ad)) (mw_Qc dC dI ad cA E v h' (as.map (mw_v ad)).toArray) (mw_A ad) := by
  obtain ⟨hx, hb, hml, -, -, hown, hts, hK⟩ := X
  have hpre : PreS s H (mw_Pc dC dI ad cA E as h) (as.map (mw_v ad)) := ⟨mw_blind hEm, fun U hU hW => ⟨rfl, by rw [hU]; exact hP, mw_K.moved hW hK, hEm s U hW (fun q h1 h2 => by rw [hU]; exact hS.2.1 q h1 h2) hE⟩⟩
  have hW8 : 2 * (F0 m pc ls ((as.map (mw_v ad)).reverse ++ r.map (mw_v ad))).monitorRoom + ((r.map (mw_v ad)).map fun v => v.category).sum ≤ 8 := lv_room (by rw [mw_wd_sum]; exact hr8)
  by_cases h0 : nest = 0
  · exact va_runS ⟨hx, hb, hml, hown, hts⟩ hM ⟨callB_of (mw_na mj) hts (mw_wsm_good hcode) rfl rfl rfl (hts _ hini) (hts _ (hlink.1 h0)) (mw_own_ok mj hmj).2.2 hR, hts _ hst⟩ hpre rfl (by simp [hlen]) hls rfl hW8 hd ⟨Nat.zero_le _, Nat.zero_le _⟩
  · exact va_runSN ⟨hx, hb, hml, hown, hts⟩ hM ⟨va_cnB (mw_na mj) hts (mw_wsm_good hcode) rfl rfl rfl (hK.2 _ (hlink.2 h0)) (hts _ hini) (mw_own_ok mj hmj).2.2 hR, hts _ hst, trivial⟩ hpre rfl (by simp [hlen]) hls rfl hW8 hd ⟨Nat.zero_le _, Nat.zero_le _⟩
theorem mw_runVR (X : mw_cx dC dI cA p s m args meth c mi) (hR : (mw_rm d).frames + 1 ≤ R.frames ∧ 8 + (mw_l mj + 11) + (mw_rm d).locals ≤ R.locals) (hE : E s) (hEm : ∀ u U : State, u.WarmedH U.vm → (∀ q, q < u.heap.size → ¬ mw_A ad q → U.heap[q]? = u.heap[q]?) → E u → E U) (hd : decode (mw_b mi) pc = .ok (.invokevirtual x, 3)) (hmj : mj < 366) (hin : Cond.instanceMethod (mw_y mj) ∈ mw_good) (hsel : Cond.selects (mw_y mj).cls (mw_y mj) (mw_y mj) ∈ mw_good) (hini : Cond.initialized (mw_y mj).cls ∈ mw_good) (hcode : mw_codeC mj ∈ mw_good) (hlink : mw_ML (mw_mc mi) x mj nest) {g k : Nat} (hg : (g, k) ∈ mw_val) (hgi : mo_is mg (mw_mc mj) g = true) (hcl : ∃ q : vw_C, mw_cl[mw_mc mj - 1]? = some q ∧ q.1 = (mw_y mj).cls) (hcl9 : mw_mc mj < 100)
    (hM : Met l (mw_y mj) (mw_wsm mj) (mw_rm d) (mw_Pc dC dI ad cA E (.inr (.inr (g, k)) :: as) h) (mw_Qc dC dI ad cA E v h') 0 0 (mw_A ad)) (hlen : as.length = mw_na mj) (hr8 : mj_wd r ≤ 8) (hls : ls.size = mw_l mi) (hP : va_P (dC, dI) mw_cl (mw_ws ad cA h) H) (hS : va_S (mw_A ad) s.heap H locs) :
    va_Run p l e R s m args below meth c H locs 0 0 0 0 (F0 m pc ls ((as.map (mw_v ad)).reverse ++ .ref (ad g k) :: r.map (mw_v ad))) (r.map (mw_v ad)) (mw_Qc dC dI ad cA E v h' (Value.ref (ad g k) :: as.map (mw_v ad)).toArray) (mw_A ad) := by
  obtain ⟨hx, hb, hml, -, -, hown, hts, hK⟩ := X
  obtain ⟨h1, h2⟩ := mw_is_spec hgi
  have hall := mw_val_all (g, k) hg h1 (by rw [h2]; exact hcl9)
  have he := mw_at (ad := ad) (cA := cA) (h := h) hall
  dsimp only at he
  rw [mw_cell_obj h1 h2] at he
  obtain ⟨q, hq, hqc⟩ := hcl
  have hrecv := va_recv hK.1 hP hq he
  rw [hqc] at hrecv
  have hpre : PreV s H (mw_y mj).cls (ad g k) (mw_Pc dC dI ad cA E (.inr (.inr (g, k)) :: as) h) (as.map (mw_v ad)) := ⟨mw_blind hEm, hrecv, fun U hU hW => ⟨rfl, by rw [hU]; exact hP, mw_K.moved hW hK, hEm s U hW (fun q h1 h2 => by rw [hU]; exact hS.2.1 q h1 h2) hE⟩⟩
  have hW8 : 2 * (F0 m pc ls ((as.map (mw_v ad)).reverse ++ .ref (ad g k) :: r.map (mw_v ad))).monitorRoom + ((r.map (mw_v ad)).map fun v => v.category).sum ≤ 8 := lv_room (by rw [mw_wd_sum]; exact hr8)
  by_cases h0 : nest = 0
  · exact va_runV ⟨hx, hb, hml, hown, hts⟩ hM ⟨callB_of (mw_na mj) hts (mw_wsm_good hcode) rfl rfl rfl (hts _ hini) (hts _ (hlink.1 h0)) (mw_own_ok mj hmj).2.2 hR, hts _ hin, hts _ hsel⟩ hpre rfl (by simp [hlen]) hls rfl hW8 hd ⟨Nat.zero_le _, Nat.zero_le _⟩
  · exact va_runVN ⟨hx, hb, hml, hown, hts⟩ hM ⟨va_cnB (mw_na mj) hts (mw_wsm_good hcode) rfl rfl rfl (hK.2 _ (hlink.2 h0)) (hts _ hini) (mw_own_ok mj hmj).2.2 hR, hts _ hin, hts _ hsel⟩ hpre rfl (by simp [hlen]) hls rfl hW8 hd ⟨Nat.zero_le _, Nat.zero_le _⟩
end Sound
section Thr
variable {l : Launch} {dC : Nat → ClassId} {dI : Nat → Nat → Nat} {ad : Nat → Nat → Nat} {aV : Nat → Nat} {cA : Nat → ClassId} {E : State → Prop}
theorem mw_metT {d mj k : Nat} {as : List mj_V} {h h' : mj_H} (hmj : mj < 366) (hw : mj_wd as ≤ mw_l mj) (hok : ∀ v ∈ as, mw_vd v) (hh : mw_hv h)
    (body : ∀ (p : Program) (e : Env) (s : State) (m : MethodId) (args : Array Value) (below : List Frame) (meth : Method) (c : Code), mw_cx dC dI cA p s m args meth c mj → c.exceptionTable.isEmpty = true → E s → mw_W p l e (mw_rt d) s m args below meth c (mw_TW below dC dI ad cA E k h' s) dC dI ad cA mj (0, mj_args 0 as, [], h)) : mw_MT l (mw_y mj) (mw_wsm mj) (mw_rt d) (mw_Pc dC dI ad cA E as h) dC dI ad cA E k h' := by
  obtain ⟨ho, hpl, -⟩ := mw_own_ok mj hmj
  refine MetFree.of_bodyS (code := mw_b mj) (maxLocals := mw_l mj) (ret := mw_r mj) hpl ?_ ?_
  · intro args s m h hn
    obtain ⟨meth, c, h1, h2, h3, h4, h5, h6, -, -⟩ := Cond.code_spec hn (atoms_spec (ws := mw_wsm mj) h _ List.mem_cons_self)
    exact ⟨meth, c, h1, h2, h3, h4, h5, h6⟩
  · intro p e s m args below meth c s₁ B hml hv _
    obtain ⟨rfl, hP, hK, hE⟩ := hv
    have hts := atoms_spec (ws := mw_wsm mj) B.pre
    have hown := findClass_of_methodNamed B.named
    have X : mw_cx dC dI cA p s m _ meth c mj := ⟨B.exec, B.bytes, hml, B.returns, B.notSynchronized, by rw [ho]; exact hown, fun w hw => hts w (List.mem_cons_of_mem _ hw), hK⟩
    have hnh := B.noHandlers (hts _ List.mem_cons_self)
    have hl := lv_entry (as.map (mw_v ad)) (n := mw_l mj) (by rw [mw_sl_len]; exact hw)
    rw [lg_entry_eq]
    generalize (lg_sl (as.map (mw_v ad)) ++ List.replicate (mw_l mj - (lg_sl (as.map (mw_v ad))).length) Slot.unset).toArray = ls at hl ⊢
    rw [mw_args_map] at hl
    have hh0 : s₁.heap = s.heap := by rw [B.state]; rfl
    obtain ⟨t, a1, x, b1, b2, b3⟩ := body p e s m _ below meth c X hnh hE ⟨mw_args_vd as 0 hok, (fun v hv => absurd hv List.not_mem_nil), hh⟩ ls s.heap [] hl hP va_S.rf s₁ hh0 (Stand.of_body B)
    exact ⟨t, .threw x, a1, b1, b2, x, rfl, b3⟩
def mw_MainT (l : Launch) (dC : Nat → ClassId) (dI : Nat → Nat → Nat) (ad : Nat → Nat → Nat) (cA : Nat → ClassId) (E : State → Prop) (n : Nat) : Prop := ∀ (d mi : Nat) (f : mj_F) (r0 : Nat × mj_H), mi < 366 → mj_ex mg n d (mt_code mi) f = some (.inr r0) → ∀ (p : Program) (e : Env) (s : State) (m : MethodId) (args : Array Value) (below : List Frame) (meth : Method) (c : Code), mw_cx dC dI cA p s m args meth c mi → c.exceptionTable.isEmpty = true → E s → mw_W p l e (mw_rt d) s m args below meth c (mw_TW below dC dI ad cA E r0.1 r0.2 s) dC dI ad cA mi f
theorem mw_thr_cs (hML : ∀ cn x mj nest z, (x, mj, nest, z) ∈ mw_ml cn → mw_ML cn x mj nest) (hMF : ∀ mj, mj < 366 → mw_MF mj)
    (hEm : ∀ u U : State, u.WarmedH U.vm → (∀ q, q < u.heap.size → ¬ mw_A ad q → U.heap[q]? = u.heap[q]?) → E u → E U)
    {n d mi : Nat} {pc : Nat} {lv : mj_L} {st : List mj_V} {hh : mj_H} {r0 : Nat × mj_H} {n9 a b c9 e9 len : Nat} {v9 : Int32} {i : Instr} (hmi : mi < 366) (ha : a < 366) (ih : mw_Main l dC dI ad cA E n) (iht : mw_MainT l dC dI ad cA E n) (hd : decode (mw_b mi) pc = .ok (i, len)) (hf : mw_fit mi pc i len (37, n9, a, b, c9, e9, v9) = true)
    (H : mj_do (mo_cs n9 a b c9 v9 lv st hh) (mj_ex mg n d (mt_code mi)) (mj_down (mj_ex mg n) mg d) = some (.inr r0))
    {p : Program} {e : Env} {s : State} {m : MethodId} {args : Array Value} {below : List Frame} {meth : Method} {c : Code} (X : mw_cx dC dI cA p s m args meth c mi) (hnh : c.exceptionTable.isEmpty = true) (hE : E s) : mw_W p l e (mw_rt d) s m args below meth c (mw_TW below dC dI ad cA E r0.1 r0.2 s) dC dI ad cA mi (pc, lv, st, hh) := by
  unfold mo_cs at H
  split at H
  · rename_i as r hpop
    obtain ⟨g1, H⟩ := mw_do_call H
    obtain ⟨hst, hlen⟩ := mj_pop_st hpop
    subst hst
    simp only [Bool.and_eq_true, Nat.ble_eq, Nat.beq_eq] at g1
    simp only [mw_fit] at hf
    split at hf <;> simp only [Bool.and_eq_true, Nat.beq_eq, Bool.false_eq_true, Nat.ble_eq] at hf
    rename_i x
    obtain ⟨⟨⟨⟨⟨⟨⟨h1, h2⟩, hm⟩, hs⟩, hb9⟩, hc9⟩, hw⟩, -⟩ := hf
    subst h1 h2
    obtain ⟨nest, z, hin⟩ := mw_isM_spec hm
    have hlink := hML _ _ _ _ _ hin
    obtain ⟨f1, f2, f3, -⟩ := hMF a ha
    cases d with
    | zero => exact (mj_ca_none H).elim
    | succ d =>
      have H : mj_ca c9 (mj_ex mg n d (mt_code a) (0, mj_args 0 as, [], hh)) (mj_ex mg n (d + 1) (mt_code mi)) (pc + 3, lv, r, hh) = some (.inr r0) := H
      cases hx : mj_ex mg n d (mt_code a) (0, mj_args 0 as, [], hh) with
      | none => rw [hx] at H; exact (mj_ca_none H).elim
      | some o =>
        rw [hx] at H
        rcases o with ⟨v1, h1⟩ | q
        · have H := mj_ca_ret H
          intro hok ls HH locs hl hP hS
          have hoa : ∀ w ∈ as, mw_vd w := fun w hw => hok.2.1 w (List.mem_append_left _ (List.mem_reverse.mpr hw))
          have hor : ∀ w ∈ r, mw_vd w := fun w hw => hok.2.1 w (List.mem_append_right _ hw)
          have hM := mw_met (l := l) (dC := dC) (dI := dI) (ad := ad) (cA := cA) (E := E) (d := d) (v := v1) (h' := h1) ha (by rw [g1.2]; exact hw) hoa hok.2.2 (fun p e s m args below meth c X hE => ih d a _ v1 h1 ha hx p e s m args below meth c X hE)
          have hrun := mw_runSR (e := e) (below := below) (r := r) (R := mw_rt (d + 1)) X ⟨by simp only [mw_rm, mw_rt]; omega, by have := mw_maxl a (by omega); simp only [mw_rm, mw_rt]; omega⟩ hE hEm hd ha (f3 hs) f2 f1 hlink hM (by rw [hlen, hb9]) g1.1 hl.1 hP hS
          have hst : ((as.reverse ++ r).map (mw_v ad)) = (as.map (mw_v ad)).reverse ++ r.map (mw_v ad) := by simp
          show W _ _ _ _ _ _ _ _ _ _ _ _ _ _ _ (F0 m pc ls ((as.reverse ++ r).map (mw_v ad)))
          rw [hst]
          exact mw_after hrun hS hl hok.1 hor (iht (d + 1) mi _ r0 hmi H p e s m args below meth c X hnh hE)
        · cases mj_ca_thr H
          intro hok ls HH locs hl hP hS
          have hoa : ∀ w ∈ as, mw_vd w := fun w hw => hok.2.1 w (List.mem_append_left _ (List.mem_reverse.mpr hw))
          have hM := mw_metT (l := l) (dC := dC) (dI := dI) (ad := ad) (cA := cA) (E := E) (d := d) (k := r0.1) (h' := r0.2) ha (by rw [g1.2]; exact hw) hoa hok.2.2 (fun p e s m args below meth c X hnh hE => iht d a _ r0 ha hx p e s m args below meth c X hnh hE)
          have hst : ((as.reverse ++ r).map (mw_v ad)) = (as.map (mw_v ad)).reverse ++ r.map (mw_v ad) := by simp
          show W _ _ _ _ _ _ _ _ _ _ _ _ _ _ _ (F0 m pc ls ((as.reverse ++ r).map (mw_v ad)))
          rw [hst]
          exact mw_thrS X hnh hE hEm hd ha (f3 hs) f2 f1 hlink hM (by rw [hlen, hb9]) g1.1 hl.1 hP hS
  · simp [mj_do] at H
theorem mw_thr_cv (hML : ∀ cn x mj nest z, (x, mj, nest, z) ∈ mw_ml cn → mw_ML cn x mj nest) (hMF : ∀ mj, mj < 366 → mw_MF mj)
    (hEm : ∀ u U : State, u.WarmedH U.vm → (∀ q, q < u.heap.size → ¬ mw_A ad q → U.heap[q]? = u.heap[q]?) → E u → E U)
    {n d mi : Nat} {pc : Nat} {lv : mj_L} {st : List mj_V} {hh : mj_H} {r0 : Nat × mj_H} {n9 a b c9 e9 len : Nat} {v9 : Int32} {i : Instr} (hmi : mi < 366) (ha : a < 366) (ih : mw_Main l dC dI ad cA E n) (iht : mw_MainT l dC dI ad cA E n) (hd : decode (mw_b mi) pc = .ok (i, len)) (hf : mw_fit mi pc i len (38, n9, a, b, c9, e9, v9) = true)
    (H : mj_do (mo_cv mg n9 a b c9 e9 v9 lv st hh) (mj_ex mg n d (mt_code mi)) (mj_down (mj_ex mg n) mg d) = some (.inr r0))
    {p : Program} {e : Env} {s : State} {m : MethodId} {args : Array Value} {below : List Frame} {meth : Method} {c : Code} (X : mw_cx dC dI cA p s m args meth c mi) (hnh : c.exceptionTable.isEmpty = true) (hE : E s) : mw_W p l e (mw_rt d) s m args below meth c (mw_TW below dC dI ad cA E r0.1 r0.2 s) dC dI ad cA mi (pc, lv, st, hh) := by
  unfold mo_cv at H
  split at H
  · rename_i g k as r hpop
    obtain ⟨g1, H9⟩ := mw_do_call H
    clear H
    have H := H9
    clear H9
    obtain ⟨hst, hlen⟩ := mj_pop_st hpop
    subst hst
    simp only [Bool.and_eq_true, Nat.ble_eq, Nat.beq_eq] at g1
    simp only [mw_fit] at hf
    split at hf <;> simp only [Bool.and_eq_true, Nat.beq_eq, Bool.false_eq_true, Nat.ble_eq, Bool.not_eq_true'] at hf
    rename_i x
    obtain ⟨⟨⟨⟨⟨⟨⟨⟨h1, h2⟩, hm⟩, hs⟩, hb9⟩, hc9⟩, he9⟩, hw⟩, -⟩ := hf
    subst h1 h2 he9
    obtain ⟨nest, z, hin⟩ := mw_isM_spec hm
    have hlink := hML _ _ _ _ _ hin
    obtain ⟨f1, f2, -, f4⟩ := hMF a ha
    obtain ⟨f5, f6, f7, f8⟩ := f4 hs
    cases d with
    | zero => exact (mj_ca_none H).elim
    | succ d =>
      have H : mj_ca c9 (mj_ex mg n d (mt_code a) (0, mj_args 0 (.inr (.inr (g, k)) :: as), [], hh)) (mj_ex mg n (d + 1) (mt_code mi)) (pc + 3, lv, r, hh) = some (.inr r0) := H
      cases hx : mj_ex mg n d (mt_code a) (0, mj_args 0 (.inr (.inr (g, k)) :: as), [], hh) with
      | none => rw [hx] at H; exact (mj_ca_none H).elim
      | some o =>
        rw [hx] at H
        rcases o with ⟨v1, h1⟩ | q
        · have H := mj_ca_ret H
          intro hok ls HH locs hl hP hS
          have hoa : ∀ w ∈ (.inr (.inr (g, k)) :: as : List mj_V), mw_vd w := fun w hw => hok.2.1 w (List.mem_append_left _ (List.mem_reverse.mpr hw))
          have hor : ∀ w ∈ r, mw_vd w := fun w hw => hok.2.1 w (List.mem_append_right _ hw)
          have hM := mw_met (l := l) (dC := dC) (dI := dI) (ad := ad) (cA := cA) (E := E) (d := d) (v := v1) (h' := h1) ha (by show mj_cat (.inr (.inr (g, k))) + mj_wd as ≤ _; rw [g1.2]; exact hw) hoa hok.2.2 (fun p e s m args below meth c X hE => ih d a _ v1 h1 ha hx p e s m args below meth c X hE)
          have hrun := mw_runVR (e := e) (below := below) (r := r) (R := mw_rt (d + 1)) X ⟨by simp only [mw_rm, mw_rt]; omega, by have := mw_maxl a (by omega); simp only [mw_rm, mw_rt]; omega⟩ hE hEm hd ha f5 f6 f2 f1 hlink (hoa _ List.mem_cons_self) g1.1.1 f7 f8 hM (by simp at hlen; omega) g1.1.2 hl.1 hP hS
          have hst : (((.inr (.inr (g, k)) :: as : List mj_V).reverse ++ r).map (mw_v ad)) = (as.map (mw_v ad)).reverse ++ .ref (ad g k) :: r.map (mw_v ad) := by simp [mw_v]
          show W _ _ _ _ _ _ _ _ _ _ _ _ _ _ _ (F0 m pc ls (((.inr (.inr (g, k)) :: as : List mj_V).reverse ++ r).map (mw_v ad)))
          rw [hst]
          exact mw_after hrun hS hl hok.1 hor (iht (d + 1) mi _ r0 hmi H p e s m args below meth c X hnh hE)
        · cases mj_ca_thr H
          intro hok ls HH locs hl hP hS
          have hoa : ∀ w ∈ (.inr (.inr (g, k)) :: as : List mj_V), mw_vd w := fun w hw => hok.2.1 w (List.mem_append_left _ (List.mem_reverse.mpr hw))
          have hM := mw_metT (l := l) (dC := dC) (dI := dI) (ad := ad) (cA := cA) (E := E) (d := d) (k := r0.1) (h' := r0.2) ha (by show mj_cat (.inr (.inr (g, k))) + mj_wd as ≤ _; rw [g1.2]; exact hw) hoa hok.2.2 (fun p e s m args below meth c X hnh hE => iht d a _ r0 ha hx p e s m args below meth c X hnh hE)
          have hst : (((.inr (.inr (g, k)) :: as : List mj_V).reverse ++ r).map (mw_v ad)) = (as.map (mw_v ad)).reverse ++ .ref (ad g k) :: r.map (mw_v ad) := by simp [mw_v]
          show W _ _ _ _ _ _ _ _ _ _ _ _ _ _ _ (F0 m pc ls (((.inr (.inr (g, k)) :: as : List mj_V).reverse ++ r).map (mw_v ad)))
          rw [hst]
          exact mw_thrV X hnh hE hEm hd ha f5 f6 f2 f1 hlink (hoa _ List.mem_cons_self) g1.1.1 f7 f8 hM (by simp at hlen; omega) g1.1.2 hl.1 hP hS
  · simp [mj_do] at H
/-- THE SMALL MACHINE's THROWN ANSWERS ARE THE REAL ONE's -/
theorem mw_all_thr (hDD : ∀ h, va_D (mw_A ad) (mw_ws ad cA h)) (hinj : ∀ g k k', (g, k) ∈ mw_val → (g, k') ∈ mw_val → ad g k = ad g k' → k = k') (hEE : mw_ee ad aV E) (hEm : mw_EmP ad E) (hE2 : ∀ U, E U → mw_E2 ad U) (hlt : ∀ e, l.admits e → e.platform.stackTraces = false) : ∀ n, mw_MainT l dC dI ad cA E n
  | 0 => fun d mi f r0 _ h => by cases h
  | n + 1 => by
    have iht := mw_all_thr hDD hinj hEE hEm hE2 hlt n
    have ih := mw_all_main (l := l) (dC := dC) (dI := dI) hDD hinj hEE hEm n
    intro d mi f r0 hmi H p e s m args below meth c X hnh hE
    have go : ∀ {f : mj_F}, mj_ex mg n d (mt_code mi) f = some (.inr r0) → mw_W p l e (mw_rt d) s m args below meth c (mw_TW below dC dI ad cA E r0.1 r0.2 s) dC dI ad cA mi f := fun hf => iht d mi _ r0 hmi hf p e s m args below meth c X hnh hE
    have hR9 : 8 ≤ (mw_rt d).frames ∧ 512 ≤ (mw_rt d).locals := ⟨by simp only [mw_rt]; omega, by simp only [mw_rt]; omega⟩
    by_cases hsp : ∃ P, mt_code mi f.1 = some P ∧ mw_spec P
    · obtain ⟨P, h1, h2⟩ := hsp
      refine mw_thr_SP hDD hEE hEm hR9 hmi h1 h2 H X hE go ?_
      intro pc lv st hh a hw hr hd
      subst hr
      exact mw_o_thr X hnh hE hEm hE2 hlt ⟨hR9.1, hR9.2, Nat.le_refl _, Nat.le_refl _⟩ hw hd
    · obtain ⟨pc, lv, st, hh⟩ := f
      have H : mj_do (mj_nx mg (mt_code mi) (pc, lv, st, hh)) (mj_ex mg n d (mt_code mi)) (mj_down (mj_ex mg n) mg d) = some (.inr r0) := H
      cases hP : mt_code mi pc with
      | none =>
        have e1 : mj_nx mg (mt_code mi) (pc, lv, st, hh) = none := by simp only [mj_nx, hP]
        rw [e1] at H
        cases H
      | some P =>
        have hns : ¬ mw_spec P := fun q => hsp ⟨P, hP, q⟩
        have h0 : mw_sp P.1 = 0 := by
          have q1 : Nat.beq P.1 3 = false := by rw [← Bool.not_eq_true, Nat.beq_eq]; exact fun q => hns (Or.inl q)
          have q2 : ¬ 44 ≤ P.1 := fun q => hns (Or.inr (Or.inr (Or.inr (Or.inr (Or.inl q)))))
          have q3 : Nat.beq P.1 44 = false := by rw [← Bool.not_eq_true, Nat.beq_eq]; omega
          have q4 : Nat.ble 45 P.1 = false := by rw [← Bool.not_eq_true, Nat.ble_eq]; omega
          simp only [mw_sp, q1, q3, q4, cond_false]
        obtain ⟨i, len, hd, hf⟩ := mw_OK_0 (mw_ok_ok mi hmi) hP h0
        obtain ⟨o9, n9, a, b, c9, e9, v9⟩ := P
        have e1 : mj_nx mg (mt_code mi) (pc, lv, st, hh) = mj_i mg n9 a b c9 e9 v9 lv st hh o9 := by simp only [mj_nx, hP]
        rw [e1] at H
        by_cases h37 : o9 = 37
        · subst h37
          have ha : a < 366 := Nat.not_le.mp fun q => hns (Or.inr (Or.inr (Or.inr (Or.inr (Or.inr ⟨Or.inl rfl, q⟩)))))
          exact mw_thr_cs (fun cn x mj nest z h => mw_ml_in cn (x, mj, nest, z) h) mw_mf_ok hEm hmi ha ih iht hd hf H X hnh hE
        · by_cases h38 : o9 = 38
          · subst h38
            have ha : a < 366 := Nat.not_le.mp fun q => hns (Or.inr (Or.inr (Or.inr (Or.inr (Or.inr ⟨Or.inr rfl, q⟩)))))
            exact mw_thr_cv (fun cn x mj nest z h => mw_ml_in cn (x, mj, nest, z) h) mw_mf_ok hEm hmi ha ih iht hd hf H X hnh hE
          · exact mw_thr_step hDD hinj (fun cn x ci j nest h => mw_fl_in cn (x, ci, j, nest) h) mw_kI_in mw_kL_in hEm hmi hd hf hns ⟨h37, h38⟩ H X hE go
end Thr
