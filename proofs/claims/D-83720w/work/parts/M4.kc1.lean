/-! THE LAW over the real machine: the environment, calls of methods of both programs -/
/-- addresses: all cells are new, apart; constants and texts stand at the start -/
def kH (l : Launch) (s0 : State) (ad : Nat → Nat → Nat) (aV : Nat → Nat) : Prop := (∀ q ∈ mw_all, s0.heap.size ≤ ad q.1 q.2) ∧ (∀ p ∈ mw_all, ∀ q ∈ mw_all, ad p.1 p.2 = ad q.1 q.2 → p = q) ∧ (∀ g k k', (g, k) ∈ mw_val → (g, k') ∈ mw_val → ad g k = ad g k' → k = k') ∧ mw_E ad aV s0 ∧ mw_E2 ad s0 ∧ ∀ e, l.admits e → e.platform.stackTraces = false
section
variable {l : Launch} {s0 : State} {dC : Nat → ClassId} {dI : Nat → Nat → Nat} {ad : Nat → Nat → Nat} {aV : Nat → Nat} {cA : Nat → ClassId}
theorem kH.new (k : kH l s0 ad aV) {q : Nat} (h : mw_A ad q) : s0.heap.size ≤ q := by
  obtain ⟨z, hz, rfl⟩ := h
  exact k.1 z hz
theorem kH.dd (k : kH l s0 ad aV) (h : mj_H) : va_D (mw_A ad) (mw_ws ad cA h) := by
  refine ⟨fun i j p q hp hq e => ?_, fun i q hq => ?_⟩
  · unfold mw_ws at hp hq
    rw [List.getElem?_map] at hp hq
    cases hi : mw_all[i]? with
    | none => rw [hi] at hp; cases hp
    | some x =>
      cases hj : mw_all[j]? with
      | none => rw [hj] at hq; cases hq
      | some y =>
        rw [hi] at hp
        rw [hj] at hq
        cases hp
        cases hq
        have := k.2.1 x (List.mem_of_getElem? hi) y (List.mem_of_getElem? hj) e
        subst this
        have h1 := mw_all_uniq hi
        have h2 := mw_all_uniq hj
        omega
  · unfold mw_ws at hq
    rw [List.getElem?_map] at hq
    cases hi : mw_all[i]? with
    | none => rw [hi] at hq; cases hq
    | some x =>
      rw [hi] at hq
      cases hq
      exact ⟨x, List.mem_of_getElem? hi, rfl⟩
theorem kH.em (k : kH l s0 ad aV) : mw_EmP ad (kEn s0) := by
  intro u U hW hk ⟨h1, h2⟩
  refine ⟨h1.trans hW, fun q hq => ?_⟩
  have e := h2 q hq
  have hu : q < u.heap.size := by
    rcases Nat.lt_or_ge q u.heap.size with z | z
    · exact z
    · rw [Array.getElem?_eq_none z, Array.getElem?_eq_getElem hq] at e
      cases e
  rw [hk q hu (fun z => by have := k.new z; omega)]
  exact e
theorem kH.ee (k : kH l s0 ad aV) : mw_ee ad aV (kEn s0) := fun U hU => k.2.2.2.1.move hU.1 (fun q hq _ => hU.2 q hq)
theorem kH.e2 (k : kH l s0 ad aV) : ∀ U, kEn s0 U → mw_E2 ad U := fun U hU => k.2.2.2.2.1.move hU.1 (fun q hq _ => hU.2 q hq)
theorem km_ret (k : kH l s0 ad aV) {d mj : Nat} {as : List mj_V} {h h' : mj_H} {v : Option mj_V} (hmj : mj < 366) (hR : mj_R mg d (mt_code mj) (0, mj_args 0 as, [], h) = some (.inl (v, h'))) (hw : mj_wd as ≤ mw_l mj) (hok : ∀ v ∈ as, mw_vd v) (hh : mw_hv h) : Met l (mw_y mj) (mw_wsm mj) (mw_rm d) (mw_Pc dC dI ad cA (kEn s0) as h) (mw_Qc dC dI ad cA (kEn s0) v h') 0 0 (mw_A ad) := by
  obtain ⟨n, hn⟩ := (mj_R_iff _ _ _ _ _).mp hR
  exact mw_met hmj hw hok hh (fun p e s m args below meth c X hE => mw_all_main (fun h => k.dd h) k.2.2.1 k.ee k.em n d mj _ v h' hmj hn p e s m args below meth c X hE)
theorem km_thr (k : kH l s0 ad aV) {d mj x : Nat} {as : List mj_V} {h h' : mj_H} (hmj : mj < 366) (hR : mj_R mg d (mt_code mj) (0, mj_args 0 as, [], h) = some (.inr (x, h'))) (hw : mj_wd as ≤ mw_l mj) (hok : ∀ v ∈ as, mw_vd v) (hh : mw_hv h) : mw_MT l (mw_y mj) (mw_wsm mj) (mw_rt d) (mw_Pc dC dI ad cA (kEn s0) as h) dC dI ad cA (kEn s0) x h' := by
  obtain ⟨n, hn⟩ := (mj_R_iff _ _ _ _ _).mp hR
  exact mw_metT hmj hw hok hh (fun p e s m args below meth c X hnh hE => mw_all_thr (fun h => k.dd h) k.2.2.1 k.ee k.em k.e2 k.2.2.2.2.2 n d mj _ (x, h') hmj hn p e s m args below meth c X hnh hE)
variable {p : Program} {e : Env} {R : Room} {s : State} {m : MethodId} {args : Array Value} {below : List Frame} {meth : Method} {c : Code} {H : Heap} {locs : List Loc} {cells slots : Nat} {Q : State → Prop} {cc : ByteArray} {nL pc idx d mj : Nat} {ls : Array Slot} {rest : List Value} {h h' : mj_H} {v : Option mj_V} {as : List mj_V}
/-- a caller of the law's class -/
def kFr (dC : Nat → ClassId) (dI : Nat → Nat → Nat) (cA : Nat → ClassId) (p : Program) (s0 s : State) (m : MethodId) (args : Array Value) (c : Code) (cc : ByteArray) (nL : Nat) : Prop := p.tables.exec = Jvm.exec ∧ c.code = cc ∧ c.maxLocals = nL ∧ s.vm.findClass "LinkedCoresLaw" = some m.cls ∧ (∀ w ∈ mw_good, w.before args s = true) ∧ mw_K dC dI cA s ∧ s0.WarmedH s.vm
/-- a call that returns -/
theorem kr_V (k : kH l s0 ad aV) (F : kFr dC dI cA p s0 s m args c cc nL) (hmj : mj < 366) (hsta : mw_sta mj = false) (hlink : Cond.methodLink "LinkedCoresLaw" idx (mw_y mj) ∈ mw_good) {g i : Nat} (hg : (g, i) ∈ mw_val) (hgi : mo_is mg (mw_mc mj) g = true) (hM : Met l (mw_y mj) (mw_wsm mj) (mw_rm d) (mw_Pc dC dI ad cA (kEn s0) (.inr (.inr (g, i)) :: as) h) (mw_Qc dC dI ad cA (kEn s0) v h') 0 0 (mw_A ad)) (hlen : as.length = mw_na mj) (hr8 : (rest.map fun v => v.category).sum ≤ 8) (hls : ls.size = nL) (hP : va_P (dC, dI) mw_cl (mw_ws ad cA h) H) (hH : ∀ q, q < s0.heap.size → H[q]? = s0.heap[q]?) (hd : decode cc pc = .ok (.invokevirtual idx, 3)) (hR : (mw_rm d).frames + 1 ≤ R.frames ∧ 8 + (mw_l mj + 11) + (mw_rm d).locals ≤ R.locals) (hc : cells ≤ R.cells ∧ slots ≤ R.slots) :
    va_Run p l e R s m args below meth c H locs cells slots 0 0 (F0 m pc ls ((as.map (mw_v ad)).reverse ++ .ref (ad g i) :: rest)) rest (mw_Qc dC dI ad cA (kEn s0) v h' (Value.ref (ad g i) :: as.map (mw_v ad)).toArray) (mw_A ad) := by
  obtain ⟨hx, hb, hml, hown, hts, hK, hW0⟩ := F
  obtain ⟨f1, f2, -, f4⟩ := mw_mf_ok mj hmj
  obtain ⟨hin, hsel, ⟨q, hq, hqc⟩, hcl9⟩ := f4 hsta
  obtain ⟨h1, h2⟩ := mw_is_spec hgi
  have hall := mw_val_all (g, i) hg h1 (by rw [h2]; exact hcl9)
  have he := mw_at (ad := ad) (cA := cA) (h := h) hall
  dsimp only at he
  rw [mw_cell_obj h1 h2] at he
  have hrecv := va_recv hK.1 hP hq he
  rw [hqc] at hrecv
  have hpre : PreV s H (mw_y mj).cls (ad g i) (mw_Pc dC dI ad cA (kEn s0) (.inr (.inr (g, i)) :: as) h) (as.map (mw_v ad)) := ⟨mw_blind k.em, hrecv, fun U hU hW => ⟨rfl, by rw [hU]; exact hP, mw_K.moved hW hK, hW0.trans hW, fun q hq => by rw [hU]; exact hH q hq⟩⟩
  exact va_runV ⟨hx, hb, hml, hown, hts⟩ hM ⟨callB_of (mw_na mj) hts (mw_wsm_good f1) rfl rfl rfl (hts _ f2) (hts _ hlink) (mw_own_ok mj hmj).2.2 hR, hts _ hin, hts _ hsel⟩ hpre rfl (by simp [hlen]) hls rfl (lv_room hr8) hd ⟨hc.1, hc.2⟩
/-- a call that throws, and is caught -/
theorem kr_T (k : kH l s0 ad aV) (F : kFr dC dI cA p s0 s m args c cc nL) (hmj : mj < 366) (hsta : mw_sta mj = false) (hlink : Cond.methodLink "LinkedCoresLaw" idx (mw_y mj) ∈ mw_good) {g i x0 : Nat} (hg : (g, i) ∈ mw_val) (hgi : mo_is mg (mw_mc mj) g = true) (hM : mw_MT l (mw_y mj) (mw_wsm mj) (mw_rt d) (mw_Pc dC dI ad cA (kEn s0) (.inr (.inr (g, i)) :: as) h) dC dI ad cA (kEn s0) x0 h') (hlen : as.length = mw_na mj) (hr8 : (rest.map fun v => v.category).sum ≤ 8) (hls : ls.size = nL) (hP : va_P (dC, dI) mw_cl (mw_ws ad cA h) H) (hH : ∀ q, q < s0.heap.size → H[q]? = s0.heap[q]?) (hd : decode cc pc = .ok (.invokevirtual idx, 3)) (hR : (mw_rt d).frames + 1 ≤ R.frames ∧ 8 + (mw_l mj + 11) + (mw_rt d).locals ≤ R.locals) (hc : cells + 1 ≤ R.cells ∧ slots + 6 ≤ R.slots)
    {es : List (ExceptionTableEntry × String)} (htab : c.exceptionTable.toList = es.map (fun z => z.1)) (hes : ∀ z ∈ es, covers z.1 pc = true ∧ z.1.catchType ≠ 0 ∧ (Cond.classLink "LinkedCoresLaw" z.1.catchType z.2).before args s = true) {n0 : Nat} {y : ExceptionTableEntry × String} (hy : es[n0]? = some y) {a0 : Array Value} (hno : ∀ j z, j < n0 → es[j]? = some z → (Cond.not (Cond.castable (mw_xn x0) z.2)).before a0 s0 = true) (hyes : (Cond.castable (mw_xn x0) y.2).before a0 s0 = true)
    (kk : ∀ (x : Addr) (H1 : Heap) (L : List Loc), va_P (dC, dI) mw_cl (mw_ws ad cA h') H1 → mw_hv h' → H.size ≤ H1.size → (∀ q, q < H.size → ¬ mw_A ad q → H1[q]? = H[q]?) → (∀ z ∈ L, mw_A ad z.base) → W p l e R s m args below meth c H1 (locs ++ L) (cells + 1) (slots + 6) Q (F0 m y.1.handlerPc ls [.ref x])) :
    W p l e R s m args below meth c H locs cells slots Q (F0 m pc ls ((as.map (mw_v ad)).reverse ++ .ref (ad g i) :: rest)) := by
  obtain ⟨hx, hb, hml, hown, hts, hK, hW0⟩ := F
  obtain ⟨hcode, hini, -, f4⟩ := mw_mf_ok mj hmj
  obtain ⟨hin, hsel, ⟨q, hq, hqc⟩, hcl9⟩ := f4 hsta
  obtain ⟨h1, h2⟩ := mw_is_spec hgi
  have hall := mw_val_all (g, i) hg h1 (by rw [h2]; exact hcl9)
  have he := mw_at (ad := ad) (cA := cA) (h := h) hall
  dsimp only at he
  rw [mw_cell_obj h1 h2] at he
  have hrecv := va_recv hK.1 hP hq he
  rw [hqc] at hrecv
  obtain ⟨cellB, hcell, hobj, hcls⟩ := hrecv
  intro T hT X
  have hws := pay_in hts (mw_wsm_good hcode)
  have hcs : (Cond.code (mw_y mj) (mw_b mj) (mw_l mj) (mw_r mj)).before args s = true := hts _ hcode
  obtain ⟨o1, o2, o3⟩ := (mw_own_ok mj hmj).2.2
  obtain ⟨mk, methM, hnamed, hmethM, hstM, habM⟩ := Cond.instanceMethod_spec (hts _ hin)
  obtain ⟨methM', cM, hmethM', -, -, -, -, -, -, hsigM⟩ := Cond.code_spec hnamed hcs
  cases hmethM.symm.trans hmethM'
  obtain ⟨c2, r2, m2, q1, q2, q3, q4, kP, hkP, hkPi⟩ := Cond.selects_spec (hts _ hsel)
  cases hcls.symm.trans q1
  cases (State.methodFound?_of_named hnamed ⟨o1, o2⟩).symm.trans q2
  cases hnamed.symm.trans q3
  have hselP : selectMethod e.platform s.vm cellB.cls mk = .method mk := by rw [Launch.admits_selectMethod X.admits]; exact q4
  have hl9 : ∀ sig, parseMethodDescriptor (mw_y mj).desc = some sig → (as.map (mw_v ad)).length = sig.parameters.length := by
    intro sig hsig
    rw [hsig] at o3
    rw [List.length_map, hlen]
    exact (Option.some.inj o3).symm
  obtain ⟨vm₁, X₁, hstep₁⟩ := X.invokevirtual hx hown (hts _ hlink) hnamed hmethM hstM hkP hkPi ⟨o1, o2⟩ (a := ad g i) (cell := cellB) (by rw [hT]; exact hcell) (fun z h => by rw [h] at hobj; cases hobj) hselP hmethM habM hkP hkPi (g := F0 m pc ls ((as.map (mw_v ad)).reverse ++ .ref (ad g i) :: rest)) rfl (argsL := as.map (mw_v ad)) (rest := rest) (hl9 _ hsigM) rfl (by rw [hb]; exact hd)
  have g0m : (F0 m pc ls rest).method = m := rfl
  have hT1 : (T.setVm vm₁).heap = H := hT
  have hn1 : (T.setVm vm₁).methodNamed? (mw_y mj) = some mk := X₁.named hnamed
  have hcode1 : (Cond.code (mw_y mj) (mw_b mj) (mw_l mj) (mw_r mj)).before (Value.ref (ad g i) :: as.map (mw_v ad)).toArray (T.setVm vm₁) = true := hws _ List.mem_cons_self _ _ X₁.warmed
  obtain ⟨methY, cY, hmY, hcY, -, hlY, -, -, -, -⟩ := Cond.code_spec hn1 hcode1
  obtain ⟨kY, hkY, -⟩ := className_of_methodNamed hn1
  have hinitY : kY.init = .initialized := Cond.initialized_spec (findClass_of_methodNamed hn1) hkY (hws _ (List.mem_cons_of_mem _ hini) (Value.ref (ad g i) :: as.map (mw_v ad)).toArray _ X₁.warmed)
  have hh : At (T.setVm vm₁) (F0 m pc ls rest).method c below := X₁.here
  have happ : (headSpec (mw_wsm mj) (mw_rt d)).appliesLoose (mw_y mj) e.platform ((T.setVm vm₁).calling (F0 m pc ls rest) mk (Value.ref (ad g i) :: as.map (mw_v ad)).toArray) = true :=
    Spec.appliesLoose_calling (g := F0 m pc ls rest) hh (by rw [hb]; exact hd) hn1 hkY hinitY (X₁.room_calling (g := F0 m pc ls rest) (R' := (headSpec (mw_wsm mj) (mw_rt d)).room) (hls.trans hml.symm) hmY hcY hR.1 (by have e1 : (headSpec (mw_wsm mj) (mw_rt d)).room.locals = (mw_rt d).locals := rfl; have e2 : 2 * (F0 m pc ls rest).monitorRoom + ((F0 m pc ls rest).stack.map fun v => v.category).sum ≤ 8 := lv_room hr8; rw [hlY, e1]; omega) (by have e1 : (headSpec (mw_wsm mj) (mw_rt d)).room.cells = 1 := rfl; rw [e1]; omega) (by have e1 : (headSpec (mw_wsm mj) (mw_rt d)).room.slots = 6 := rfl; rw [e1]; omega)) (atoms_intro (fun w hw => hws w hw _ _ X₁.warmed))
  obtain ⟨mid, hmid⟩ := hh.above
  have hfr : ((T.setVm vm₁).setTop (F0 m pc ls rest)).frames = (.java (F0 m pc ls rest) :: mid) ++ below := by rw [State.frames_setTop' _ hh.top, hmid]; rfl
  have hPc : mw_Pc dC dI ad cA (kEn s0) (.inr (.inr (g, i)) :: as) h (Value.ref (ad g i) :: as.map (mw_v ad)).toArray ((T.setVm vm₁).calling (F0 m pc ls rest) mk (Value.ref (ad g i) :: as.map (mw_v ad)).toArray) := mw_blind k.em _ _ _ _ ⟨rfl, by rw [hT1]; exact hP, mw_K.moved X₁.warmed hK, hW0.trans X₁.warmed, fun q hq => by rw [hT1]; exact hH q hq⟩
  obtain ⟨o, s₂, hsteps, -, hend, hq9⟩ := Steps.callFree hM p X₁.admits X₁.cas X₁.clock (acts := []) hfr happ hPc trivial
  obtain ⟨x, rfl, L, w1, w2, w3, w4, ⟨ce, z1, z2, z3⟩, w6⟩ := hq9
  rw [State.frames_setTop' _ hh.top, X₁.tail] at hend
  obtain ⟨T', X', v1, v2, ht⟩ := X₁.outOfThrown g0m hend w1 w2
  have hvm : s₂.vm = T'.vm := by rw [ht]; exact Stand.throwing_vm T' _ x
  have hhp : s₂.heap = T'.heap := by rw [ht]; exact Stand.throwing_heap T' _ x
  have hC : s.vm.findClass (mw_xn x0) = some ce.cls := by rw [← X'.warmed.alike.findClass, ← hvm]; exact z3
  obtain ⟨vm2, Y, hst⟩ := kc_catch X' x g0m hown (cell := ce) (by rw [← hhp]; exact z1) z2 hC htab hes hy (fun j z hj hjz t ht' => by rw [hW0.alike.assignable]; exact kc_not (hno j z hj hjz) (by rw [← hW0.alike.findClass]; exact hC) (by rw [← hW0.alike.findClass]; exact ht')) (fun t ht' => by rw [hW0.alike.assignable]; exact kc_yes hyes (by rw [← hW0.alike.findClass]; exact hC) (by rw [← hW0.alike.findClass]; exact ht'))
  have hsz : H.size ≤ T'.heap.size := by rw [← hT1]; exact v2.2.1
  obtain ⟨t, a1, a2⟩ := kk x T'.heap L (by rw [← hhp]; exact w4.1) w4.2.2.2 hsz (fun q hq hA => by
    have := kc_same v2 (q := q) (by rw [hT1]; exact hq) (fun z hz e => hA (e ▸ w3 z hz))
    rw [hT1] at this
    exact this) w3 (T'.setVm vm2) rfl Y
  refine ⟨t, hstep₁ _ (fun acts => ?_), a2⟩
  rw [doInvoke_state]
  refine hsteps.trans ?_
  rw [ht]
  exact hst t a1
end
