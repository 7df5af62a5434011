/-! THROWN ANSWERS: an exception leaves a method -/
def mw_xn (k : Nat) : String := bif Nat.beq k 1 then "java/lang/IllegalArgumentException" else (bif Nat.beq k 2 then "java/lang/IndexOutOfBoundsException" else (bif Nat.beq k 3 then "java/lang/IllegalStateException" else (bif Nat.beq k 4 then "java/util/NoSuchElementException" else "java/lang/UnsupportedOperationException")))
def mw_E2 (ad : Nat → Nat → Nat) (s : State) : Prop := va_Zq "java/lang/Throwable" "UNASSIGNED_STACK" "[Ljava/lang/StackTraceElement;" (mw_A ad) s s.heap ∧ va_Zq "java/lang/Throwable" "SUPPRESSED_SENTINEL" "Ljava/util/List;" (mw_A ad) s s.heap ∧ (∀ args : Array Value, (Cond.laysStatic "java/lang/Throwable" "UNASSIGNED_STACK" "[Ljava/lang/StackTraceElement;").before args s = true) ∧ (∀ args : Array Value, (Cond.laysStatic "java/lang/Throwable" "SUPPRESSED_SENTINEL" "Ljava/util/List;").before args s = true) ∧ (∀ k, 0 < k → k < 6 → (Cond.castable (mw_xn k) (mw_xn k)).before #[] s = true) ∧ (Cond.declares ⟨"java/lang/RuntimeException", "<init>", "()V"⟩).before #[] s = true ∧ (Cond.declares ⟨"java/lang/Exception", "<init>", "()V"⟩).before #[] s = true ∧ (Cond.declares ⟨"java/lang/Throwable", "<init>", "()V"⟩).before #[] s = true
theorem mw_ls_move {C n d : String} {A : Nat → Prop} {u U : State} (hW : u.WarmedH U.vm) (hk : ∀ q, q < u.heap.size → ¬ A q → U.heap[q]? = u.heap[q]?) (hz : va_Zq C n d A u u.heap) (h : ∀ args : Array Value, (Cond.laysStatic C n d).before args u = true) (args : Array Value) : (Cond.laysStatic C n d).before args U = true := by
  obtain ⟨c, k, i, f, a, cell, hc, hi, hst, ha, hcell, hs, hcls, hlt, hty⟩ := Cond.laysStatic_spec (h args)
  obtain ⟨k', hi', hek⟩ := State.fieldFound?_setVm hW.alike hi
  have hA : ¬ A a := by
    rcases hz with hz | ⟨t, hz⟩
    · obtain ⟨cf, kf, fi, f2, a2, cell2, h1, h2, h3, h4, h5, h6, h7, h8⟩ := hz
      cases hi.symm.trans h1
      cases ha.symm.trans h4
      exact h8
    · obtain ⟨cf, kf, fi, f2, a2, cell2, h1, h2, h3, h4, h5, h6, h7, h8⟩ := hz
      cases hi.symm.trans h1
      cases ha.symm.trans h4
      exact h8
  have hcell' : U.heap[a]? = some cell := by rw [hk a (Array.getElem?_eq_some_iff.mp hcell).1 hA]; exact hcell
  exact Cond.laysStatic_of (s := U) (by rw [hW.alike.findClass]; exact hc) hi' hst (by rw [hek]; exact ha) hcell' hs hcls hlt (by rw [hek]; exact hty)
theorem mw_E2.move {ad : Nat → Nat → Nat} {u U : State} (hW : u.WarmedH U.vm) (hk : ∀ q, q < u.heap.size → ¬ mw_A ad q → U.heap[q]? = u.heap[q]?) (h : mw_E2 ad u) : mw_E2 ad U := by
  obtain ⟨h1, h2, h3, h4, h5, h6, h7, h8⟩ := h
  refine ⟨(va_Zq.moved hW.alike h1).kept hk, (va_Zq.moved hW.alike h2).kept hk, mw_ls_move hW hk h1 h3, mw_ls_move hW hk h2 h4, fun k a b => ?_, ?_, ?_, ?_⟩
  · have := h5 k a b
    rw [← Cond.castable_setVm hW.alike] at this
    exact va_tabs rfl (rfl : (u.setVm U.vm).vm = U.vm) this
  · rw [← Cond.declares_setVm hW.alike] at h6
    exact va_tabs rfl (rfl : (u.setVm U.vm).vm = U.vm) h6
  · rw [← Cond.declares_setVm hW.alike] at h7
    exact va_tabs rfl (rfl : (u.setVm U.vm).vm = U.vm) h7
  · rw [← Cond.declares_setVm hW.alike] at h8
    exact va_tabs rfl (rfl : (u.setVm U.vm).vm = U.vm) h8
theorem mw_isRef_of {C n d : String} {A : Nat → Prop} {s : State} {args : Array Value} (h : va_Zq C n d A s s.heap) : (Cond.isRef (.static C n d)).before args s = true := by
  rcases h with h | ⟨t, h⟩
  · obtain ⟨cf, kf, fi, f, a, cell, h1, h2, h3, h4, h5, h6, h7, h8⟩ := h
    have e : (Term.static C n d).eval args s none [] s = some .null := by
      simp [Term.eval, State.fieldNamed?, h1, h2, h4, h5, h6, h7]
    simp [Cond.before, Cond.holds, Cond.value, e, Value.isRef]
  · obtain ⟨cf, kf, fi, f, a, cell, h1, h2, h3, h4, h5, h6, h7, h8⟩ := h
    have e : (Term.static C n d).eval args s none [] s = some (.ref t) := by
      simp [Term.eval, State.fieldNamed?, h1, h2, h4, h5, h6, h7]
    simp [Cond.before, Cond.holds, Cond.value, e, Value.isRef]
section Thr
variable {p : Program} {l : Launch} {e : Env} {R : Room} {s : State} {m : MethodId} {args : Array Value} {below : List Frame} {meth : Method} {c : Code} {T : State} {locs : List Loc} {cells slots : Nat}
theorem mw_rebase (X : Stand p l e R s m args below meth c T locs cells slots) {R' : Room} (hf : R'.frames ≤ R.frames) (hl : R'.locals ≤ R.locals) (hc : cells + R'.cells ≤ R.cells) (hs : slots + R'.slots ≤ R.slots) : Stand p l e R' (T.setFrames (.invoking m args :: below)) m args below meth c T [] 0 0 := by
  obtain ⟨g₀, hfr⟩ := X.frames_eq
  have hcur := State.cur_lt_of_frames hfr
  have hF : (T.setFrames (.invoking m args :: below)).frames = .invoking m args :: below := State.frames_setFrames _ hcur
  have hmT : T.vm.method? m = some meth := X.method'
  obtain ⟨th, hth, -⟩ := State.frames_cons hfr
  have hroom : (T.setFrames (.invoking m args :: below)).hasRoom e.platform R' = true := by
    have h := X.room
    have hU : (T.setFrames (.invoking m args :: below)).localsInUse = s.localsInUse := by
      rw [State.localsInUse_invoking hF (meth := meth) (c := c) hmT X.code, State.localsInUse_invoking X.frames X.method X.code]
    have hlen : s.frames.length = below.length + 1 := by rw [X.frames, List.length_cons]
    simp only [State.hasRoom, Bool.and_eq_true, decide_eq_true_eq] at h
    simp only [State.hasRoom, Bool.and_eq_true, decide_eq_true_eq, hF, hU, List.length_cons, State.stackLimits_setFrames, State.stackBytes_setFrames, X.limits, X.bytes]
    have h1 := X.heapSize
    have h2 := X.used
    rw [hlen] at h
    refine ⟨⟨⟨⟨by omega, by omega, by omega, by omega, by omega, h.1.1.1.2.2.2.2.2⟩, ?_⟩, ?_⟩, X.book⟩
    · have := h.1.1.2
      show T.heap.size + R'.cells ≤ e.platform.maxCells
      omega
    · have := h.1.2
      show T.slotsUsed + R'.slots ≤ e.platform.maxSlots
      omega
  refine ⟨X.admits, X.cas, X.clock, hF, hroom, ?_, hmT, X.code, X.here, X.tail, State.WarmedH.refl T, (State.stackLimits_setFrames _ _ _).symm, (State.stackBytes_setFrames _ _).symm, ?_⟩
  · have hh := X.hears
    unfold State.hears at hh ⊢
    have hcode : ∀ q, (T.setFrames (.invoking m args :: below)).code? q = s.code? q := by
      intro q
      rw [State.code?_eq, State.code?_eq]
      show (T.vm.method? q).bind _ = _
      rw [X.warmed.alike.method?]
    split at hh
    · rw [hcode]; exact hh
    · rfl
    · rfl
    · show (T.vm.method? m).any _ = true
      rw [hmT]
      rw [X.method] at hh
      exact hh
  · show (T.setFrames (.invoking m args :: below)).sameButNew T [] 0 0
    refine ⟨?_, Nat.le_refl _, Nat.le_refl _, ?_, ?_, fun a c h => ⟨c, h, rfl, rfl, fun _ _ => rfl⟩⟩
    · rw [State.setFrames_setFrames, State.setFrames_self hth]
    · show T.slotsUsed = T.slotsUsed + ((T.heap.toList.drop T.heap.size).map (·.slots.size)).sum
      rw [List.drop_eq_nil_of_le (by simp)]
      rfl
    · show ((T.heap.toList.drop T.heap.size).map (·.slots.size)).sum ≤ 0
      rw [List.drop_eq_nil_of_le (by simp)]
      exact Nat.le_refl 0
/-- the throw itself, from a state with nothing written as yet -/
theorem mw_thrW {cc : ByteArray} {own cls : String} {names : List String} {ic ix pc : Nat} {ls : Array Slot} {rest : List Value} (hexec : p.tables.exec = Jvm.exec) (hb : c.code = cc) (htr : e.platform.stackTraces = false) (hown : s.vm.findClass own = some m.cls) (hcls : Bundle.fit cls = true) (hnames : ∀ n ∈ names, Bundle.fit n = true) (h : ∀ a ∈ Bundle.ownAtoms0 own ic cls names, a.before args s = true)
    (hcl : (Cond.classLink own ix cls).before args s = true) (hini : (Cond.initialized cls).before args s = true) (hd0 : decode cc pc = .ok (.new ix, 3)) (hd3 : decode cc (pc + 3) = .ok (.dup, 1)) (hd4 : decode cc (pc + 4) = .ok (.invokespecial ic, 3)) (hd7 : decode cc (pc + 7) = .ok (.athrow, 1)) (hnh : c.exceptionTable.isEmpty = true) (hsize : ls.size = c.maxLocals) (hR : 1 ≤ R.cells ∧ 6 ≤ R.slots ∧ names.length + 3 < R.frames ∧ (rest.map fun v => v.category).sum + (13 * (names.length + 1) + 42) ≤ R.locals) (hlocks : meth.locks = false) :
    W p l e R s m args below meth c s.heap [] 0 0 (fun t => ∃ x, s.heap.size ≤ x ∧ t.status = .running ∧ Ended t below (.threw x) ∧ s.WarmedH t.vm ∧ s.sameButNew ({ t with vm := s.vm } : State) [] 1 6 ∧ ∃ ce, t.heap[x]? = some ce ∧ Bundle.OwnCell args s cls x .null ce) (F0 m pc ls rest) := by
  have hins : (Cond.instantiable cls 6).before args s = true := h _ (by simp [Bundle.ownAtoms0])
  refine W.newc hexec hb hown hcl hins hini rfl hd0 (by omega) (by omega) (fun cC kC h1 h2 h3 h4 => ?_)
  refine lv_dup hexec hb hd3 rfl ?_
  intro T hT X
  have hout : ∀ x ∈ c.exceptionTable.toList, covers x (pc + 4 + 3) = false := by
    intro x hx
    have : c.exceptionTable.toList = [] := by
      have := Array.isEmpty_iff.mp hnh
      rw [this]
    rw [this] at hx
    cases hx
  obtain ⟨U, a1, a2, a3, a4, a5, a6⟩ := X.ctorThrow0 hexec htr hown hcls hnames h (fun x hx => absurd hx List.not_mem_nil) h1 h2 (a := s.heap.size) (by rw [hT]; simp [freshCell]) (Nat.le_refl _) (g := F0 m (pc + 4) ls (.ref s.heap.size :: .ref s.heap.size :: rest)) rfl hsize rfl rfl rfl (by rw [hb]; exact hd4) (by rw [hb]; exact hd7) hout hR.2.2.1 (by show 2 * 0 + (1 + (rest.map fun v => v.category).sum) + (13 * (names.length + 1) + 41) ≤ R.locals; omega) hlocks
  exact ⟨U, a1, s.heap.size, Nat.le_refl _, a2, a3, a4, a5, a6⟩
end Thr
