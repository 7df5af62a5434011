/-! THE LAW over the real machine: what is thrown is caught (cold or warm) -/
section Catch
variable {e : Env} {f : JFrame} {a : Addr}
theorem kc_go {E : CtlPost} {d : Bool} {acts : List Action} {s : State} {Q : Handler → Pre} {x : ExceptionTableEntry} {t : List ExceptionTableEntry} {c : ClassId} {cell : Cell} (hx : covers x f.pc = true) (h0 : x.catchType ≠ 0) (hl : s.vm.ClassLinks e.platform f.method.cls x.catchType c) (hcell : s.heap[a]? = some cell) (hobj : ∀ k, cell.vm ≠ .statics k) (hk : ∃ k, (s.vm.noted f.method.cls x.catchType (.cls c)).classes[cell.cls]? = some k) (hc : ∃ k, (s.vm.noted f.method.cls x.catchType (.cls c)).classes[c]? = some k) :
    wp (findHandler.go f a (x :: t)) Q E e d acts s ↔ if (s.vm.noted f.method.cls x.catchType (.cls c)).assignable cell.cls c = true then Q (.found x.handlerPc) d acts (s.setVm (s.vm.noted f.method.cls x.catchType (.cls c))) else wp (findHandler.go f a t) Q E e d acts (s.setVm (s.vm.noted f.method.cls x.catchType (.cls c))) := by
  simp only [covers] at hx
  obtain ⟨ha, ht⟩ := (resolveClass_links e.toSetting hl).op (op := VmOp.resolveClass f.method.cls x.catchType) rfl
  have hsz : (s.vm.noted f.method.cls x.catchType (.cls c)).classes.size ≤ s.vm.classes.size := by rw [Vm.size_note]; exact Nat.le_refl _
  generalize s.vm.noted f.method.cls x.catchType (.cls c) = vm' at *
  cases hfit : vm'.assignable cell.cls c <;>
    simp [findHandler.go, hx, h0, ha, ht, hsz, hcell, hobj, hk, hc, hfit, VmOp.dirties, VmOp.acts]
theorem kc_gos {s : State} {args : Array Value} {own C : String} {cell : Cell} (hpl : e.platform.magicAccessors = ({} : Platform).magicAccessors) (hown : s.vm.findClass own = some f.method.cls) (hobj : cell.vm.isStatics = false) (hC : s.vm.findClass C = some cell.cls) :
    ∀ (es : List (ExceptionTableEntry × String)) (vm1 : Vm), s.WarmedH vm1 → (∀ z ∈ es, covers z.1 f.pc = true ∧ z.1.catchType ≠ 0 ∧ (Cond.classLink own z.1.catchType z.2).before args s = true) → ∀ (i : Nat) (y : ExceptionTableEntry × String), es[i]? = some y → (∀ j z, j < i → es[j]? = some z → ∀ t, s.vm.findClass z.2 = some t → s.vm.assignable cell.cls t = false) → (∀ t, s.vm.findClass y.2 = some t → s.vm.assignable cell.cls t = true) →
      ∃ vm2, s.WarmedH vm2 ∧ ∀ st : State, st.vm = vm1 → st.heap[a]? = some cell → ∀ (Q : Handler → Pre) (E : CtlPost) (d : Bool) (acts : List Action), wp (findHandler.go f a (es.map (fun z => z.1))) Q E e d acts st ↔ Q (.found y.1.handlerPc) d acts (st.setVm vm2)
  | [], vm1, hW, _, i, y, hy, _, _ => by simp at hy
  | z :: es, vm1, hW, hz, i, y, hy, hno, hyes => by
    obtain ⟨h1, h2, h3⟩ := hz z List.mem_cons_self
    obtain ⟨c', hc', hcl⟩ := Cond.classLink_spec hown h3 e.platform hpl
    obtain ⟨dk, _, _, kt, hd, _, _, _, _, hkt, _, hopen⟩ := hcl.here
    have hcl₀ := hW.classLinks hcl
    have hW' : s.WarmedH (vm1.noted f.method.cls z.1.catchType (.cls c')) := hW.noted hd hopen (State.rightAt_cls hcl)
    obtain ⟨ks, hks⟩ := Vm.classAt_of_findClass hC
    obtain ⟨ks', hks', -⟩ := hW'.alike.2.2 _ _ hks
    obtain ⟨kt', hkt', -⟩ := hW'.alike.2.2 _ _ hkt
    have step : ∀ st : State, st.vm = vm1 → st.heap[a]? = some cell → ∀ (Q : Handler → Pre) (E : CtlPost) (d : Bool) (acts : List Action), wp (findHandler.go f a (z.1 :: es.map (fun z => z.1))) Q E e d acts st ↔ if (vm1.noted f.method.cls z.1.catchType (.cls c')).assignable cell.cls c' = true then Q (.found z.1.handlerPc) d acts (st.setVm (vm1.noted f.method.cls z.1.catchType (.cls c'))) else wp (findHandler.go f a (es.map (fun z => z.1))) Q E e d acts (st.setVm (vm1.noted f.method.cls z.1.catchType (.cls c'))) := by
      intro st hst hcell Q E d acts
      subst hst
      exact kc_go h1 h2 hcl₀ hcell (VmData.ne_statics_of hobj) ⟨ks', hks'⟩ ⟨kt', hkt'⟩
    cases i with
    | zero =>
      have : z = y := Option.some.inj hy
      subst this
      refine ⟨_, hW', fun st hst hcell Q E d acts => ?_⟩
      rw [List.map_cons, step st hst hcell, if_pos (by rw [hW'.alike.assignable]; exact hyes _ hc')]
    | succ i =>
      have hn := hno 0 z (Nat.succ_pos _) rfl c' hc'
      obtain ⟨vm2, w2, r2⟩ := kc_gos hpl hown hobj hC es _ hW' (fun z hz' => hz z (List.mem_cons_of_mem _ hz')) i y hy (fun j z hj hjz => hno (j + 1) z (by omega) hjz) hyes
      refine ⟨vm2, w2, fun st hst hcell Q E d acts => ?_⟩
      rw [List.map_cons, step st hst hcell, if_neg (by rw [hW'.alike.assignable, hn]; decide)]
      exact r2 (st.setVm _) rfl hcell Q E d acts
variable {p : Program} {l : Launch} {R : Room} {s : State} {m : MethodId} {args : Array Value} {below : List Frame} {meth : Method} {c : Code} {T : State} {locs : List Loc} {cells slots : Nat}
theorem kc_catch (X : Stand p l e R s m args below meth c T locs cells slots) (x : Addr) {g : JFrame} (hg : g.method = m) {own C : String} {cell : Cell} (hown : s.vm.findClass own = some m.cls) (hcell : T.heap[x]? = some cell) (hobj : cell.vm.isStatics = false) (hC : s.vm.findClass C = some cell.cls) {es : List (ExceptionTableEntry × String)} (htab : c.exceptionTable.toList = es.map (fun z => z.1)) (hes : ∀ z ∈ es, covers z.1 g.pc = true ∧ z.1.catchType ≠ 0 ∧ (Cond.classLink own z.1.catchType z.2).before args s = true) {i : Nat} {y : ExceptionTableEntry × String} (hy : es[i]? = some y) (hno : ∀ j z, j < i → es[j]? = some z → ∀ t, s.vm.findClass z.2 = some t → s.vm.assignable cell.cls t = false) (hyes : ∀ t, s.vm.findClass y.2 = some t → s.vm.assignable cell.cls t = true) :
    ∃ vm2, Stand p l e R s m args below meth c (T.setVm vm2) locs cells slots ∧ ∀ target, Steps p.tables e below ((T.setVm vm2).setTop { g with pc := y.1.handlerPc, stack := [.ref x] }) target → Steps p.tables e below ((T.setTop g).pushFrame (.throwing x)) target := by
  subst hg
  have hpl : e.platform.magicAccessors = ({} : Platform).magicAccessors := by rw [X.admits.platform]
  obtain ⟨vm2, w2, r2⟩ := kc_gos (e := e) (f := g) (a := x) hpl hown hobj hC es T.vm X.warmed hes i y hy hno hyes
  refine ⟨vm2, X.noted w2, fun target hrest => ?_⟩
  have h : At T g.method c below := X.here
  obtain ⟨hgo, hw⟩ := h.throwing x
  refine Steps.head hgo hw ?_
  have hm : ((T.setTop g).pushFrame (.throwing x)).vm.method? g.method = some meth := by rw [Stand.throwing_vm]; exact X.method'
  have find : ∀ (Q : Handler → Pre) (E : CtlPost) (d : Bool) (acts : List Action), wp (findHandler g x) Q E e d acts ((T.setTop g).pushFrame (.throwing x)) ↔ Q (.found y.1.handlerPc) d acts (((T.setTop g).pushFrame (.throwing x)).setVm vm2) := by
    intro Q E d acts
    rw [W.findHandler_eq hm X.code, htab]
    exact r2 _ (Stand.throwing_vm _ _ _) (by rw [Stand.throwing_heap]; exact hcell) Q E d acts
  have stp : (stepThrowing e ((T.setTop g).pushFrame (.throwing x)) x (.java g :: T.frames.tail)).Is ((((T.setTop g).pushFrame (.throwing x)).setVm vm2).setFrames (.java { g with pc := y.1.handlerPc, stack := [.ref x] } :: T.frames.tail)) [] := by
    simp only [stepThrowing, searchFrame, vmDo]
    generalize hr : Sem.go _ e false [] _ = res
    obtain ⟨as, rfl, ha⟩ := Sem.eq_ok_of hr (a := Handler.found y.1.handlerPc) (s' := ((T.setTop g).pushFrame (.throwing x)).setVm vm2) (acts' := []) (by simp [find])
    exact ⟨rfl, ha⟩
  rw [stepThread_throwing (frames_entered h.top _), stp.1]
  obtain ⟨g₀, hg⟩ := Option.isSome_iff_exists.mp h.top
  obtain ⟨r, hr⟩ := State.topJava?_eq_some.mp hg
  have e1 : ((T.setTop g).pushFrame (.throwing x)).setFrames (.java { g with pc := y.1.handlerPc, stack := [.ref x] } :: T.frames.tail) = T.setTop { g with pc := y.1.handlerPc, stack := [.ref x] } := by
    rw [State.pushFrame, State.setFrames_setFrames, State.setTop_of_frames _ hr, State.setFrames_setFrames, State.setTop_of_frames _ hr, hr]
    rfl
  have e2 : (((T.setTop g).pushFrame (.throwing x)).setVm vm2).setFrames (.java { g with pc := y.1.handlerPc, stack := [.ref x] } :: T.frames.tail) = (T.setVm vm2).setTop { g with pc := y.1.handlerPc, stack := [.ref x] } := congrArg (fun z : State => z.setVm vm2) e1
  rw [e2]
  exact hrest
end Catch
theorem kc_same {s t : State} {L : List Loc} {cells slots : Nat} (h : s.sameButNew t L cells slots) {q : Nat} (hq : q < s.heap.size) (hL : ∀ z ∈ L, z.base ≠ q) : t.heap[q]? = s.heap[q]? := by
  obtain ⟨c, hc⟩ : ∃ c, s.heap[q]? = some c := ⟨s.heap[q], Array.getElem?_eq_getElem hq⟩
  obtain ⟨c', h1, h2, h3, h4⟩ := h.2.2.2.2.2 q c hc
  rw [h1, hc, h2]
  have : c'.slots = c.slots := by
    apply Array.ext_getElem?
    intro i
    exact h4 i (fun hm => hL _ hm rfl)
  rw [this]
/-- castable and not castable, as facts of the tables -/
theorem kc_yes {C D : String} {args : Array Value} {s : State} {cc t : ClassId} (h : (Cond.castable C D).before args s = true) (hC : s.vm.findClass C = some cc) (hD : s.vm.findClass D = some t) : s.vm.assignable cc t = true := by
  obtain ⟨c', t', h1, h2, h3⟩ := Cond.castable_spec h
  cases hC.symm.trans h1
  cases hD.symm.trans h2
  exact h3
theorem kc_not {C D : String} {args : Array Value} {s : State} {cc t : ClassId} (h : (Cond.not (Cond.castable C D)).before args s = true) (hC : s.vm.findClass C = some cc) (hD : s.vm.findClass D = some t) : s.vm.assignable cc t = false := by
  cases hv : s.vm.assignable cc t with
  | false => rfl
  | true => simp [Cond.before, Cond.holds, Cond.value, hC, hD, hv] at h
