/-! thrown answers: what a method that throws leaves behind; calls that throw -/
def mw_rt (d : Nat) : Room := { frames := d + 8, cells := 1, slots := 6, locals := 32 * d + 512 }
def mw_Tq (dC : Nat → ClassId) (dI : Nat → Nat → Nat) (ad : Nat → Nat → Nat) (cA : Nat → ClassId) (E : State → Prop) (k : Nat) (h : mj_H) (st : State) (x : Addr) (t : State) : Prop := ∃ L : List Loc, st.WarmedH t.vm ∧ st.sameButNew ({ t with vm := st.vm } : State) L 1 6 ∧ (∀ q ∈ L, mw_A ad q.base) ∧ mw_B dC dI ad cA E h t ∧ (∃ ce, t.heap[x]? = some ce ∧ ce.vm.isStatics = false ∧ t.vm.findClass (mw_xn k) = some ce.cls) ∧ st.heap.size ≤ x
def mw_TW (below : List Frame) (dC : Nat → ClassId) (dI : Nat → Nat → Nat) (ad : Nat → Nat → Nat) (cA : Nat → ClassId) (E : State → Prop) (k : Nat) (h : mj_H) (s : State) : State → Prop := fun t => ∃ x, t.status = .running ∧ Ended t below (.threw x) ∧ mw_Tq dC dI ad cA E k h s x t
def mw_MT (l : Launch) (y : MethodName) (ws : List Cond) (rm : Room) (Pc : Array Value → State → Prop) (dC : Nat → ClassId) (dI : Nat → Nat → Nat) (ad : Nat → Nat → Nat) (cA : Nat → ClassId) (E : State → Prop) (k : Nat) (h : mj_H) : Prop := MetFree l y (headSpec ws rm) Pc (fun _ _ _ _ _ => True) (fun _ st o t => ∃ x, o = .threw x ∧ mw_Tq dC dI ad cA E k h st x t)
section Thr
variable {p : Program} {l : Launch} {e : Env} {R : Room} {s : State} {m : MethodId} {args : Array Value} {below : List Frame} {meth : Method} {c : Code} {T : State} {locs : List Loc} {dC : Nat → ClassId} {dI : Nat → Nat → Nat} {ad : Nat → Nat → Nat} {cA : Nat → ClassId} {E : State → Prop} {k : Nat} {h h' : mj_H}
theorem mw_outN (hnh : c.exceptionTable.isEmpty = true) (pc : Nat) : ∀ x ∈ c.exceptionTable.toList, covers x pc = false := by
  intro x hx
  rw [Array.isEmpty_iff.mp hnh] at hx
  cases hx
theorem mw_backT {y : MethodName} {ws : List Cond} {rm : Room} {Pc : Array Value → State → Prop} {bytes : ByteArray} {maxL : Nat} {ret : Option FieldType} (hEm : mw_EmP ad E) (hM : mw_MT l y ws rm Pc dC dI ad cA E k h') (X : Stand p l e R s m args below meth c T locs 0 0) {g : JFrame} (hg : g.method = m) (hsize : g.locals.size = c.maxLocals) {ig : Instr} {len : Nat} (hdg : decode c.code g.pc = .ok (ig, len)) (hW : 2 * g.monitorRoom + (g.stack.map fun v => v.category).sum ≤ 8) {mk : MethodId} {a : Array Value} (hn : T.methodNamed? y = some mk) (hpre : ∀ w ∈ ws, w.before a T = true) (hcode : (Cond.code y bytes maxL ret).before a T = true) (hini : (Cond.initialized y.cls).before a T = true) (hP : Pc a (T.calling g mk a)) (hR : rm.frames + 1 ≤ R.frames ∧ 8 + (maxL + 11) + rm.locals ≤ R.locals ∧ rm.cells ≤ R.cells ∧ rm.slots ≤ R.slots) (hnh : c.exceptionTable.isEmpty = true) (hlk : g.locked = none) (hent : g.entered = []) (hlocks : meth.locks = false) (hlA : ∀ q ∈ locs, mw_A ad q.base) (hsz : s.heap.size ≤ T.heap.size) :
    ∃ U, Steps p.tables e below (doInvoke e (T.setTop g) [] mk a).1 U ∧ mw_TW below dC dI ad cA E k h' s U := by
  obtain ⟨methY, cY, hmY, hcY, -, hlY, -, -, -, -⟩ := Cond.code_spec hn hcode
  obtain ⟨kY, hkY, -⟩ := className_of_methodNamed hn
  have hinitY : kY.init = .initialized := Cond.initialized_spec (findClass_of_methodNamed hn) hkY hini
  have h : At T g.method c below := by rw [hg]; exact X.here
  have happ : (headSpec ws rm).appliesLoose y e.platform (T.calling g mk a) = true :=
    Spec.appliesLoose_calling (g := g) h hdg hn hkY hinitY (X.room_calling (g := g) (R' := (headSpec ws rm).room) hsize hmY hcY hR.1 (by have e1 : (headSpec ws rm).room.locals = rm.locals := rfl; rw [hlY, e1]; omega) (by have e1 : (headSpec ws rm).room.cells = rm.cells := rfl; rw [e1]; omega) (by have e1 : (headSpec ws rm).room.slots = rm.slots := rfl; rw [e1]; omega)) (atoms_intro hpre)
  obtain ⟨mid, hmid⟩ := h.above
  have hfr : (T.setTop g).frames = (.java g :: mid) ++ below := by rw [State.frames_setTop' g h.top, hmid]; rfl
  obtain ⟨o, s₂, hsteps, -, hend, hq⟩ := Steps.callFree hM p X.admits X.cas X.clock (acts := []) hfr happ hP trivial
  obtain ⟨x, rfl, L, q1, q2, q3, q4, q5, q6⟩ := hq
  rw [State.frames_setTop' g h.top, X.tail] at hend
  obtain ⟨T', X', w1, w2, ht⟩ := X.outOfThrown hg hend q1 q2
  obtain ⟨v1, v2, v3, v4, v5⟩ := X'.leaveThrown x hg hlk hent (mw_outN hnh _) hlocks
  have hvm : s₂.vm = T'.vm := by rw [ht]; exact Stand.throwing_vm T' g x
  have hhp : s₂.heap = T'.heap := by rw [ht]; exact Stand.throwing_heap T' g x
  have hWU : s₂.WarmedH (T'.setFrames (.throwing x :: below)).vm := by
    show s₂.WarmedH T'.vm
    rw [← hvm]
    exact State.WarmedH.refl s₂
  refine ⟨_, hsteps.trans (by rw [ht]; exact v1), x, v2, v3, locs ++ L, v4, ?_, ?_, ⟨?_, mw_K.moved hWU q4.2.1, hEm s₂ _ hWU (fun q _ _ => by show T'.heap[q]? = _; rw [hhp]) q4.2.2.1, q4.2.2.2⟩, ?_, Nat.le_trans hsz q6⟩
  · simpa using v5
  · intro q hq
    rcases List.mem_append.mp hq with hq | hq
    · exact hlA q hq
    · exact q3 q hq
  · show va_P (dC, dI) mw_cl (mw_ws ad cA h') T'.heap
    rw [← hhp]
    exact q4.1
  · obtain ⟨ce, z1, z2, z3⟩ := q5
    exact ⟨ce, by show T'.heap[x]? = _; rw [← hhp]; exact z1, z2, by show T'.vm.findClass _ = _; rw [← hvm]; exact z3⟩
variable {mi d pc x mj nest : Nat} {as r : List mj_V} {ls : Array Slot} {H : Heap}
theorem mw_thrS (X9 : mw_cx dC dI cA p s m args meth c mi) (hnh : c.exceptionTable.isEmpty = true) (hE : E s) (hEm : mw_EmP ad E) (hd : decode (mw_b mi) pc = .ok (.invokestatic x, 3)) (hmj : mj < 366) (hst : Cond.static (mw_y mj) ∈ mw_good) (hini : Cond.initialized (mw_y mj).cls ∈ mw_good) (hcode : mw_codeC mj ∈ mw_good) (hlink : mw_ML (mw_mc mi) x mj nest)
    (hM : mw_MT l (mw_y mj) (mw_wsm mj) (mw_rt d) (mw_Pc dC dI ad cA E as h) dC dI ad cA E k h') (hlen : as.length = mw_na mj) (hr8 : mj_wd r ≤ 8) (hls : ls.size = mw_l mi) (hP : va_P (dC, dI) mw_cl (mw_ws ad cA h) H) (hS : va_S (mw_A ad) s.heap H locs) :
    W p l e (mw_rt (d + 1)) s m args below meth c H locs 0 0 (mw_TW below dC dI ad cA E k h' s) (F0 m pc ls ((as.map (mw_v ad)).reverse ++ r.map (mw_v ad))) := by
  obtain ⟨hx, hb, hml, -, hlocks, hown, hts, hK⟩ := X9
  intro T hT X
  have hws := pay_in hts (mw_wsm_good hcode)
  have hcs : (Cond.code (mw_y mj) (mw_b mj) (mw_l mj) (mw_r mj)).before args s = true := hts _ hcode
  obtain ⟨mk, hnamed⟩ := Cond.code_named hcs
  obtain ⟨methM, cM, hmethM, -, -, -, -, -, -, hsigM⟩ := Cond.code_spec hnamed hcs
  have hstatic : methM.isStatic = true := Cond.static_spec hnamed hmethM (hts _ hst)
  obtain ⟨kP, hkP, -⟩ := className_of_methodNamed hnamed
  have hinitP : kP.init = .initialized := Cond.initialized_spec (findClass_of_methodNamed hnamed) hkP (hts _ hini)
  obtain ⟨o1, o2, o3⟩ := (mw_own_ok mj hmj).2.2
  have hl9 : ∀ sig, parseMethodDescriptor (mw_y mj).desc = some sig → (as.map (mw_v ad)).length = sig.parameters.length := by
    intro sig hsig
    rw [hsig] at o3
    rw [List.length_map, hlen]
    exact (Option.some.inj o3).symm
  have hloc := mw_maxl mj (by omega)
  have fin : ∀ vm₁ : Vm, Stand p l e (mw_rt (d + 1)) s m args below meth c (T.setVm vm₁) locs 0 0 → ∃ U, Steps p.tables e below (doInvoke e ((T.setVm vm₁).setTop { (F0 m pc ls ((as.map (mw_v ad)).reverse ++ r.map (mw_v ad))) with stack := r.map (mw_v ad) }) [] mk (as.map (mw_v ad)).toArray).1 U ∧ mw_TW below dC dI ad cA E k h' s U := by
    intro vm₁ X₁
    refine mw_backT (bytes := mw_b mj) (maxL := mw_l mj) (ret := mw_r mj) hEm hM X₁ rfl (hls.trans hml.symm) (by rw [hb]; exact hd) (lv_room (by rw [mw_wd_sum]; exact hr8)) (X₁.named hnamed) (fun w hw => hws w hw _ _ X₁.warmed) (hws _ List.mem_cons_self _ _ X₁.warmed) (hws _ (List.mem_cons_of_mem _ hini) _ _ X₁.warmed) ?_ ⟨?_, ?_, Nat.le_refl _, Nat.le_refl _⟩ hnh rfl rfl hlocks hS.2.2 (by show s.heap.size ≤ T.heap.size; rw [hT]; exact hS.1)
    · refine mw_blind hEm _ _ _ _ ⟨rfl, by show va_P _ _ _ T.heap; rw [hT]; exact hP, mw_K.moved X₁.warmed hK, hEm s _ X₁.warmed (fun q h1 h2 => by show T.heap[q]? = _; rw [hT]; exact hS.2.1 q h1 h2) hE⟩
    · simp only [mw_rt]; omega
    · simp only [mw_rt]; omega
  by_cases h0 : nest = 0
  · obtain ⟨vm₁, X₁, hstep₁⟩ := X.invokestatic hx hown (hts _ (hlink.1 h0)) hnamed hmethM hstatic hkP hinitP ⟨o1, o2⟩ (g := F0 m pc ls ((as.map (mw_v ad)).reverse ++ r.map (mw_v ad))) rfl (argsL := as.map (mw_v ad)) (rest := r.map (mw_v ad)) (hl9 _ hsigM) rfl (by rw [hb]; exact hd)
    obtain ⟨U, st, hU⟩ := fin vm₁ X₁
    exact ⟨U, hstep₁ _ (fun acts => by rw [doInvoke_state]; exact st), hU⟩
  · obtain ⟨vm₁, X₁, hstep₁⟩ := X.invokestaticNest hx hown (va_any (A' := args) rfl (hK.2 _ (hlink.2 h0))) hnamed hmethM hstatic hkP hinitP ⟨o1, o2⟩ (g := F0 m pc ls ((as.map (mw_v ad)).reverse ++ r.map (mw_v ad))) rfl (argsL := as.map (mw_v ad)) (rest := r.map (mw_v ad)) (hl9 _ hsigM) rfl (by rw [hb]; exact hd)
    obtain ⟨U, st, hU⟩ := fin vm₁ X₁
    exact ⟨U, hstep₁ _ (fun acts => by rw [doInvoke_state]; exact st), hU⟩
theorem mw_thrV (X9 : mw_cx dC dI cA p s m args meth c mi) (hnh : c.exceptionTable.isEmpty = true) (hE : E s) (hEm : mw_EmP ad E) (hd : decode (mw_b mi) pc = .ok (.invokevirtual x, 3)) (hmj : mj < 366) (hin : Cond.instanceMethod (mw_y mj) ∈ mw_good) (hsel : Cond.selects (mw_y mj).cls (mw_y mj) (mw_y mj) ∈ mw_good) (hini : Cond.initialized (mw_y mj).cls ∈ mw_good) (hcode : mw_codeC mj ∈ mw_good) (hlink : mw_ML (mw_mc mi) x mj nest) {g9 k9 : Nat} (hg9 : (g9, k9) ∈ mw_val) (hgi : mo_is mg (mw_mc mj) g9 = true) (hcl : ∃ q : vw_C, mw_cl[mw_mc mj - 1]? = some q ∧ q.1 = (mw_y mj).cls) (hcl9 : mw_mc mj < 100)
    (hM : mw_MT l (mw_y mj) (mw_wsm mj) (mw_rt d) (mw_Pc dC dI ad cA E (.inr (.inr (g9, k9)) :: as) h) dC dI ad cA E k h') (hlen : as.length = mw_na mj) (hr8 : mj_wd r ≤ 8) (hls : ls.size = mw_l mi) (hP : va_P (dC, dI) mw_cl (mw_ws ad cA h) H) (hS : va_S (mw_A ad) s.heap H locs) :
    W p l e (mw_rt (d + 1)) s m args below meth c H locs 0 0 (mw_TW below dC dI ad cA E k h' s) (F0 m pc ls ((as.map (mw_v ad)).reverse ++ .ref (ad g9 k9) :: r.map (mw_v ad))) := by
  obtain ⟨hx, hb, hml, -, hlocks, hown, hts, hK⟩ := X9
  obtain ⟨h1, h2⟩ := mw_is_spec hgi
  have hall := mw_val_all (g9, k9) hg9 h1 (by rw [h2]; exact hcl9)
  have he := mw_at (ad := ad) (cA := cA) (h := h) hall
  dsimp only at he
  rw [mw_cell_obj h1 h2] at he
  obtain ⟨q, hq, hqc⟩ := hcl
  have hrecv := va_recv hK.1 hP hq he
  rw [hqc] at hrecv
  obtain ⟨cellB, hcell, hobj, hcls⟩ := hrecv
  intro T hT X
  have hws := pay_in hts (mw_wsm_good hcode)
  have hcs : (Cond.code (mw_y mj) (mw_b mj) (mw_l mj) (mw_r mj)).before args s = true := hts _ hcode
  obtain ⟨o1, o2, o3⟩ := (mw_own_ok mj hmj).2.2
  obtain ⟨mk, methM, hnamed, hmethM, hstM, habM⟩ := Cond.instanceMethod_spec (hts _ hin)
  obtain ⟨methM', cM, hmethM', -, -, -, -, -, -, hsigM⟩ := Cond.code_spec hnamed hcs
  cases hmethM.symm.trans hmethM'
  obtain ⟨c2, r2, m2, q1, q2, q3, q4, kP, hkP, hkPi⟩ := Cond.selects_spec (hts _ hsel)
  cases hcls.symm.trans q1
  cases (State.methodFound?_of_named hnamed ⟨o1, o2⟩).symm.trans q2
  cases hnamed.symm.trans q3
  have hselP : selectMethod e.platform s.vm cellB.cls mk = .method mk := by rw [Launch.admits_selectMethod X.admits]; exact q4
  have hl9 : ∀ sig, parseMethodDescriptor (mw_y mj).desc = some sig → (as.map (mw_v ad)).length = sig.parameters.length := by
    intro sig hsig
    rw [hsig] at o3
    rw [List.length_map, hlen]
    exact (Option.some.inj o3).symm
  have hloc := mw_maxl mj (by omega)
  have fin : ∀ vm₁ : Vm, Stand p l e (mw_rt (d + 1)) s m args below meth c (T.setVm vm₁) locs 0 0 → ∃ U, Steps p.tables e below (doInvoke e ((T.setVm vm₁).setTop { (F0 m pc ls ((as.map (mw_v ad)).reverse ++ .ref (ad g9 k9) :: r.map (mw_v ad))) with stack := r.map (mw_v ad) }) [] mk (Value.ref (ad g9 k9) :: as.map (mw_v ad)).toArray).1 U ∧ mw_TW below dC dI ad cA E k h' s U := by
    intro vm₁ X₁
    refine mw_backT (bytes := mw_b mj) (maxL := mw_l mj) (ret := mw_r mj) hEm hM X₁ rfl (hls.trans hml.symm) (by rw [hb]; exact hd) (lv_room (by rw [mw_wd_sum]; exact hr8)) (X₁.named hnamed) (fun w hw => hws w hw _ _ X₁.warmed) (hws _ List.mem_cons_self _ _ X₁.warmed) (hws _ (List.mem_cons_of_mem _ hini) _ _ X₁.warmed) ?_ ⟨?_, ?_, Nat.le_refl _, Nat.le_refl _⟩ hnh rfl rfl hlocks hS.2.2 (by show s.heap.size ≤ T.heap.size; rw [hT]; exact hS.1)
    · refine mw_blind hEm _ _ _ _ ⟨rfl, by show va_P _ _ _ T.heap; rw [hT]; exact hP, mw_K.moved X₁.warmed hK, hEm s _ X₁.warmed (fun q h1 h2 => by show T.heap[q]? = _; rw [hT]; exact hS.2.1 q h1 h2) hE⟩
    · simp only [mw_rt]; omega
    · simp only [mw_rt]; omega
  by_cases h0 : nest = 0
  · obtain ⟨vm₁, X₁, hstep₁⟩ := X.invokevirtual hx hown (hts _ (hlink.1 h0)) hnamed hmethM hstM hkP hkPi ⟨o1, o2⟩ (a := ad g9 k9) (cell := cellB) (by rw [hT]; exact hcell) (fun z h => by rw [h] at hobj; cases hobj) hselP hmethM habM hkP hkPi (g := F0 m pc ls ((as.map (mw_v ad)).reverse ++ .ref (ad g9 k9) :: r.map (mw_v ad))) rfl (argsL := as.map (mw_v ad)) (rest := r.map (mw_v ad)) (hl9 _ hsigM) rfl (by rw [hb]; exact hd)
    obtain ⟨U, st, hU⟩ := fin vm₁ X₁
    exact ⟨U, hstep₁ _ (fun acts => by rw [doInvoke_state]; exact st), hU⟩
  · obtain ⟨vm₁, X₁, hstep₁⟩ := X.invokevirtualNest hx hown (va_any (A' := args) rfl (hK.2 _ (hlink.2 h0))) hnamed hmethM hstM hkP hkPi ⟨o1, o2⟩ (a := ad g9 k9) (cell := cellB) (by rw [hT]; exact hcell) (fun z h => by rw [h] at hobj; cases hobj) hselP hmethM habM hkP hkPi (g := F0 m pc ls ((as.map (mw_v ad)).reverse ++ .ref (ad g9 k9) :: r.map (mw_v ad))) rfl (argsL := as.map (mw_v ad)) (rest := r.map (mw_v ad)) (hl9 _ hsigM) rfl (by rw [hb]; exact hd)
    obtain ⟨U, st, hU⟩ := fin vm₁ X₁
    exact ⟨U, hstep₁ _ (fun acts => by rw [doInvoke_state]; exact st), hU⟩
end Thr
