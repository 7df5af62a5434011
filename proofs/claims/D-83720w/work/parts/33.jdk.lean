/-! members of the JDK that the program calls, over its texts and constants -/
def mw_E (ad : Nat → Nat → Nat) (aV : Nat → Nat) (s : State) : Prop :=
  (∀ g, 16 ≤ g → g ≤ 18 → va_En (mw_ec g) (mw_ed g) (mw_en g) [("java/lang/Enum", "ordinal", "I", (List.range 23).map nI)] (ad g) (mw_A ad) s s.heap) ∧
  (∀ k, k < 27 → va_O "java/lang/String" (ad 9 k) (mw_A ad) s s.heap ∧ va_OF "java/lang/String" "coder" "B" (.int 0) (ad 9 k) (mw_A ad) s s.heap ∧ va_OF "java/lang/String" "value" "[B" (.ref (aV k)) (ad 9 k) (mw_A ad) s s.heap ∧ va_T .byte (aV k) (mt_sln k) (fun j => .int (nI (mt_sch k j))) (mw_A ad) s s.heap) ∧
  (∀ i, i < 23 → va_OF "LinkedCores$Word" "text" "Ljava/lang/String;" (.ref (ad 9 i)) (ad 16 i) (mw_A ad) s s.heap) ∧
  (∀ cn x k z1 z2, (x, k, z1, z2) ∈ mw_tl cn → vk_R (mw_on cn) x (mw_tx.getD k "") (ad 9 k) s) ∧
  va_Z "java/lang/String" "COMPACT_STRINGS" "Z" (.int 1) (mw_A ad) s s.heap ∧
  va_Zq "jdk/internal/util/Preconditions" "SIOOBE_FORMATTER" "Ljava/util/function/BiFunction;" (mw_A ad) s s.heap
theorem mw_E.move {ad : Nat → Nat → Nat} {aV : Nat → Nat} {u U : State} (hW : u.WarmedH U.vm) (hk : ∀ q, q < u.heap.size → ¬ mw_A ad q → U.heap[q]? = u.heap[q]?) (h : mw_E ad aV u) : mw_E ad aV U := by
  obtain ⟨h1, h2, h3, h4, h5, h6⟩ := h
  exact ⟨fun g a b => (va_En.moved hW.alike (h1 g a b)).kept hk, fun k hk2 => ⟨(va_O.moved hW.alike (h2 k hk2).1).kept hk, (va_OF.moved hW.alike (h2 k hk2).2.1).kept hk, (va_OF.moved hW.alike (h2 k hk2).2.2.1).kept hk, (va_T.moved hW.alike (h2 k hk2).2.2.2).kept hk⟩, fun i hi => (va_OF.moved hW.alike (h3 i hi)).kept hk, fun cn x k z1 z2 hm => (h4 cn x k z1 z2 hm).warm hW, (va_Z.moved hW.alike h5).kept hk, (va_Zq.moved hW.alike h6).kept hk⟩
def mw_EmP (ad : Nat → Nat → Nat) (E : State → Prop) : Prop := ∀ u U : State, u.WarmedH U.vm → (∀ q, q < u.heap.size → ¬ mw_A ad q → U.heap[q]? = u.heap[q]?) → E u → E U
def mw_PV (dC : Nat → ClassId) (dI : Nat → Nat → Nat) (ad : Nat → Nat → Nat) (cA : Nat → ClassId) (E : State → Prop) (vs : List Value) (h : mj_H) : Array Value → State → Prop := fun v U => v = vs.toArray ∧ va_P (dC, dI) mw_cl (mw_ws ad cA h) U.heap ∧ mw_K dC dI cA U ∧ E U
def mw_cj (own : String) (cc : ByteArray) (nL : Nat) (ret : Option FieldType) (dC : Nat → ClassId) (dI : Nat → Nat → Nat) (cA : Nat → ClassId) (p : Program) (s : State) (m : MethodId) (args : Array Value) (meth : Method) (c : Code) : Prop :=
  p.tables.exec = Jvm.exec ∧ c.code = cc ∧ c.maxLocals = nL ∧ meth.sig.returnType = ret ∧ meth.locks = false ∧ s.vm.findClass own = some m.cls ∧ (∀ w ∈ mw_good, w.before args s = true) ∧ mw_K dC dI cA s
/-- rooms of the JDK's members -/
def jr (k : Nat) : Room := { frames := k, cells := 0, slots := 0, locals := 40 * k }
def jw (y : MethodName) (cc : ByteArray) (nL : Nat) (ret : Option FieldType) : List Cond := Cond.code y cc nL ret :: mw_good
theorem jw_good {y : MethodName} {cc : ByteArray} {nL : Nat} {ret : Option FieldType} (hc : Cond.code y cc nL ret ∈ mw_good) : GoodIn mw_good (jw y cc nL ret) := by
  intro w hw
  rcases List.mem_cons.mp hw with rfl | hw
  · exact mw_good_good _ hc
  · exact mw_good_good _ hw
section JDK
variable {l : Launch} {dC : Nat → ClassId} {dI : Nat → Nat → Nat} {ad : Nat → Nat → Nat} {aV : Nat → Nat} {cA : Nat → ClassId} {E : State → Prop} {h : mj_H}
theorem mw_blindV (hEm : mw_EmP ad E) {vs : List Value} : FrameBlind (mw_PV dC dI ad cA E vs h) := by
  intro a U g mk hp
  obtain ⟨h1, h2, h3, h4⟩ := hp
  exact ⟨h1, h2, mw_K.moved (State.WarmedH.refl U) h3, hEm U _ (State.WarmedH.refl U) (fun q _ _ => rfl) h4⟩
theorem mw_metJ {y : MethodName} {cc : ByteArray} {nL : Nat} {ret : Option FieldType} {rm : Room} {vs : List Value} {v : Option mj_V} (hpl : plainName y.cls = true) (hw : (lg_sl vs).length ≤ nL)
    (body : ∀ (p : Program) (e : Env) (s : State) (m : MethodId) (args : Array Value) (below : List Frame) (meth : Method) (c : Code), mw_cj y.cls cc nL ret dC dI cA p s m args meth c → E s → va_P (dC, dI) mw_cl (mw_ws ad cA h) s.heap → ∀ ls : Array Slot, lv_has ls nL (lv_args 0 vs) → W p l e rm s m args below meth c s.heap [] 0 0 (MQ below (mw_Qc dC dI ad cA E v h) args s 0 0 (mw_A ad)) (F0 m 0 ls [])) :
    Met l y (jw y cc nL ret) rm (mw_PV dC dI ad cA E vs h) (mw_Qc dC dI ad cA E v h) 0 0 (mw_A ad) := by
  refine Met.ofW (cc := cc) (maxL := nL) (ret := ret) hpl rfl ?_
  intro p e s m args below meth c s₁ B hml hv
  obtain ⟨rfl, hP, hK, hE⟩ := hv
  have hts := atoms_spec (ws := jw y cc nL ret) B.pre
  have hown := findClass_of_methodNamed B.named
  have hl := lv_entry vs (n := nL) hw
  rw [lg_entry_eq]
  generalize (lg_sl vs ++ List.replicate (nL - (lg_sl vs).length) Slot.unset).toArray = ls at hl ⊢
  exact body p e s m _ below meth c ⟨B.exec, B.bytes, hml, B.returns, B.notSynchronized, hown, fun w hw => hts w (List.mem_cons_of_mem _ hw), hK⟩ hE hP ls hl
variable {p : Program} {e : Env} {R : Room} {s : State} {m : MethodId} {args : Array Value} {below : List Frame} {meth : Method} {c : Code} {Q : State → Prop} {own : String} {cc : ByteArray} {nL pc : Nat} {ls : Array Slot} {H : Heap} {locs : List Loc} {rest : List Value}
theorem mw_BofK (hK : mw_K dC dI cA s) (hE : E s) (hEm : mw_EmP ad E) (hP : va_P (dC, dI) mw_cl (mw_ws ad cA h) H) (hS : va_S (mw_A ad) s.heap H locs) (hh : mw_hv h) {t : State} (ht : t.heap = H) (hW : s.WarmedH t.vm) : mw_B dC dI ad cA E h t :=
  ⟨by rw [ht]; exact hP, mw_K.moved hW hK, hEm s t hW (fun q h1 h2 => by rw [ht]; exact hS.2.1 q h1 h2) hE, hh⟩
theorem mw_jret {ty : FieldType} {x : Int32} (X : mw_cj own cc nL (some ty) dC dI cA p s m args meth c) (hE : E s) (hEm : mw_EmP ad E) (hh : mw_hv h) (hn : narrow ty (.int x) = .int x) (hP : va_P (dC, dI) mw_cl (mw_ws ad cA h) H) (hS : va_S (mw_A ad) s.heap H locs) (hd : decode cc pc = .ok (.ireturn, 1)) :
    W p l e R s m args below meth c H locs 0 0 (MQ below (mw_Qc dC dI ad cA E (some (.inl x)) h) args s 0 0 (mw_A ad)) (F0 m pc ls [.int x]) := by
  obtain ⟨hx, hb, -, hr, hlk, -, -, hK⟩ := X
  exact W.zret hx hb hr hn (fun t ht hW => ⟨⟨x, (), rfl, rfl, mw_BofK hK hE hEm hP hS hh ht hW⟩, hS.F ht⟩) hS.2.2 hd hlk
theorem mw_jretv (X : mw_cj own cc nL none dC dI cA p s m args meth c) (hE : E s) (hEm : mw_EmP ad E) (hh : mw_hv h) (hP : va_P (dC, dI) mw_cl (mw_ws ad cA h) H) (hS : va_S (mw_A ad) s.heap H locs) (hd : decode cc pc = .ok (.return_, 1)) :
    W p l e R s m args below meth c H locs 0 0 (MQ below (mw_Qc dC dI ad cA E none h) args s 0 0 (mw_A ad)) (F0 m pc ls []) := by
  obtain ⟨hx, hb, -, hr, hlk, -, -, hK⟩ := X
  exact W.vret hx hb hr (fun t ht hW => ⟨⟨(), rfl, trivial, mw_BofK hK hE hEm hP hS hh ht hW⟩, hS.F ht⟩) hS.2.2 hd hlk
variable {y : MethodName} {bytes : ByteArray} {maxL n idx : Nat} {ret ret0 : Option FieldType} {rm : Room} {As : List Value} {x : Int32}
/-- behind a call that gives an int -/
theorem mw_jafter {st0 : List Value} {a0 : Array Value} (hr : va_Run p l e R s m args below meth c H locs 0 0 0 0 (F0 m pc ls st0) rest (mw_Qc dC dI ad cA E (some (.inl x)) h a0) (mw_A ad)) (hS : va_S (mw_A ad) s.heap H locs)
    (kk : ∀ (H1 : Heap) (locs1 : List Loc), va_P (dC, dI) mw_cl (mw_ws ad cA h) H1 → va_S (mw_A ad) s.heap H1 locs1 → W p l e R s m args below meth c H1 locs1 0 0 Q (F0 m (pc + 3) ls (.int x :: rest))) : W p l e R s m args below meth c H locs 0 0 Q (F0 m pc ls st0) :=
  va_calli (a := a0) hr hS (fun _ _ h => h) (fun _ h => h) (fun x' u t H1 locs1 ht hvm hpost hB _ _ hS1 => by
      have hpost : x' = x := hpost
      subst hpost
      exact kk H1 locs1 (by rw [← ht]; exact hB.1) hS1)
theorem mw_jafterv {st0 : List Value} {a0 : Array Value} (hr : va_Run p l e R s m args below meth c H locs 0 0 0 0 (F0 m pc ls st0) rest (mw_Qc dC dI ad cA E none h a0) (mw_A ad)) (hS : va_S (mw_A ad) s.heap H locs)
    (kk : ∀ (H1 : Heap) (locs1 : List Loc), va_P (dC, dI) mw_cl (mw_ws ad cA h) H1 → va_S (mw_A ad) s.heap H1 locs1 → W p l e R s m args below meth c H1 locs1 0 0 Q (F0 m (pc + 3) ls rest)) : W p l e R s m args below meth c H locs 0 0 Q (F0 m pc ls st0) :=
  va_callv (a := a0) hr hS (fun _ _ h => h) (fun _ h => h) (fun u t H1 locs1 ht hvm hpost hB _ _ hS1 => kk H1 locs1 (by rw [← ht]; exact hB.1) hS1)
theorem mw_jrunS {v : Option mj_V} (X : p.tables.exec = Jvm.exec ∧ c.code = cc ∧ c.maxLocals = nL ∧ s.vm.findClass own = some m.cls ∧ (∀ w ∈ mw_good, w.before args s = true) ∧ mw_K dC dI cA s) (hE : E s) (hEm : mw_EmP ad E) (hM : Met l y (jw y bytes maxL ret) rm (mw_PV dC dI ad cA E As h) (mw_Qc dC dI ad cA E v h) 0 0 (mw_A ad)) (hrm : rm.cells = 0 ∧ rm.slots = 0) (hcode : Cond.code y bytes maxL ret ∈ mw_good) (hst : Cond.static y ∈ mw_good) (hini : Cond.initialized y.cls ∈ mw_good) (hlink : Cond.methodLink own idx y ∈ mw_good)
    (hy : y.cls ≠ "java/lang/invoke/MethodHandle" ∧ y.cls ≠ "java/lang/invoke/VarHandle" ∧ (parseMethodDescriptor y.desc).map (fun d => d.parameters.length) = some n) (hlen : As.length = n) (hR : rm.frames + 1 ≤ R.frames ∧ 8 + (maxL + 11) + rm.locals ≤ R.locals) (hw : (rest.map fun v => v.category).sum ≤ 8) (hls : ls.size = nL) (hd : decode cc pc = .ok (.invokestatic idx, 3)) (hP : va_P (dC, dI) mw_cl (mw_ws ad cA h) H) (hS : va_S (mw_A ad) s.heap H locs) :
    va_Run p l e R s m args below meth c H locs 0 0 0 0 (F0 m pc ls (As.reverse ++ rest)) rest (mw_Qc dC dI ad cA E v h As.toArray) (mw_A ad) := by
  obtain ⟨hx, hb, hml, hown, hts, hK⟩ := X
  have hpre : PreS s H (mw_PV dC dI ad cA E As h) As := ⟨mw_blindV hEm, fun U hU hW => ⟨rfl, by rw [hU]; exact hP, mw_K.moved hW hK, hEm s U hW (fun q h1 h2 => by rw [hU]; exact hS.2.1 q h1 h2) hE⟩⟩
  exact va_runS ⟨hx, hb, hml, hown, hts⟩ hM ⟨callB_of n hts (jw_good hcode) rfl hrm.1 hrm.2 (hts _ hini) (hts _ hlink) hy hR, hts _ hst⟩ hpre rfl hlen hls rfl (lv_room hw) hd ⟨Nat.zero_le _, Nat.zero_le _⟩
theorem mw_jrunV {v : Option mj_V} {b : Nat} (X : p.tables.exec = Jvm.exec ∧ c.code = cc ∧ c.maxLocals = nL ∧ s.vm.findClass own = some m.cls ∧ (∀ w ∈ mw_good, w.before args s = true) ∧ mw_K dC dI cA s) (hE : E s) (hEm : mw_EmP ad E) (hM : Met l y (jw y bytes maxL ret) rm (mw_PV dC dI ad cA E (.ref b :: As) h) (mw_Qc dC dI ad cA E v h) 0 0 (mw_A ad)) (hrm : rm.cells = 0 ∧ rm.slots = 0) (hcode : Cond.code y bytes maxL ret ∈ mw_good) (hin : Cond.instanceMethod y ∈ mw_good) (hsel : Cond.selects y.cls y y ∈ mw_good) (hini : Cond.initialized y.cls ∈ mw_good) (hlink : Cond.methodLink own idx y ∈ mw_good) (hO : va_O y.cls b (mw_A ad) s s.heap)
    (hy : y.cls ≠ "java/lang/invoke/MethodHandle" ∧ y.cls ≠ "java/lang/invoke/VarHandle" ∧ (parseMethodDescriptor y.desc).map (fun d => d.parameters.length) = some n) (hlen : As.length = n) (hR : rm.frames + 1 ≤ R.frames ∧ 8 + (maxL + 11) + rm.locals ≤ R.locals) (hw : (rest.map fun v => v.category).sum ≤ 8) (hls : ls.size = nL) (hd : decode cc pc = .ok (.invokevirtual idx, 3)) (hP : va_P (dC, dI) mw_cl (mw_ws ad cA h) H) (hS : va_S (mw_A ad) s.heap H locs) :
    va_Run p l e R s m args below meth c H locs 0 0 0 0 (F0 m pc ls (As.reverse ++ .ref b :: rest)) rest (mw_Qc dC dI ad cA E v h (Value.ref b :: As).toArray) (mw_A ad) := by
  obtain ⟨hx, hb, hml, hown, hts, hK⟩ := X
  have hpre : PreV s H y.cls b (mw_PV dC dI ad cA E (.ref b :: As) h) As := ⟨mw_blindV hEm, va_Orecv hO hS, fun U hU hW => ⟨rfl, by rw [hU]; exact hP, mw_K.moved hW hK, hEm s U hW (fun q h1 h2 => by rw [hU]; exact hS.2.1 q h1 h2) hE⟩⟩
  exact va_runV ⟨hx, hb, hml, hown, hts⟩ hM ⟨callB_of n hts (jw_good hcode) rfl hrm.1 hrm.2 (hts _ hini) (hts _ hlink) hy hR, hts _ hin, hts _ hsel⟩ hpre rfl hlen hls rfl (lv_room hw) hd ⟨Nat.zero_le _, Nat.zero_le _⟩
/-- what is asked of the constants' facts -/
def mw_ee (ad : Nat → Nat → Nat) (aV : Nat → Nat) (E : State → Prop) : Prop := ∀ U, E U → mw_E ad aV U
theorem jd_coder (hEE : mw_ee ad aV E) (hEm : mw_EmP ad E) (hh : mw_hv h) {k : Nat} (hk : k < 27) : Met l ⟨"java/lang/String", "coder", "()B"⟩ (jw ⟨"java/lang/String", "coder", "()B"⟩ prog_27_method_152_code 1 (Option.some Jvm.ClassFile.FieldType.byte)) (jr 0) (mw_PV dC dI ad cA E [.ref (ad 9 k)] h) (mw_Qc dC dI ad cA E (some (.inl 0)) h) 0 0 (mw_A ad) := by
  refine mw_metJ (by decide +kernel) (by show 1 ≤ 1; decide) ?_
  intro p e s m args below meth c X hE hP ls hl
  have Y := X
  obtain ⟨hx, hb, -, -, -, hown, hts, -⟩ := X
  obtain ⟨-, e2, -, -, e5, -⟩ := hEE s hE
  have hS : va_S (mw_A ad) s.heap s.heap [] := va_S.rf
  refine va_gets hx hb e5 hS hown (hts _ (mw_good_of (mw_tm4 (List.mem_of_getElem? (i := 4) rfl)) rfl)) (fun _ q => q) (by decide +kernel) ?_
  refine lv_if_eq (tgt := 13) hx hb (off := 10) (by decide +kernel) (by decide) (fun q => absurd q (by decide)) (fun _ => ?_)
  refine lv_aload_n (k := 0) hx hb (by decide +kernel) rfl (lv_at hl 0 rfl) ?_
  refine vk_getf hx hb (e2 k hk).2.1 hS hown (hts _ (mw_good_of (mw_tm13 (List.mem_of_getElem? (i := 131) rfl)) rfl)) (fun _ q => q) (by decide +kernel) ?_
  refine lv_goto (tgt := 14) hx hb (off := 4) (by decide +kernel) (by decide) ?_
  exact mw_jret Y hE hEm hh rfl hP hS (by decide +kernel)
theorem jd_isLatin1 (hEE : mw_ee ad aV E) (hEm : mw_EmP ad E) (hh : mw_hv h) {k : Nat} (hk : k < 27) : Met l ⟨"java/lang/String", "isLatin1", "()Z"⟩ (jw ⟨"java/lang/String", "isLatin1", "()Z"⟩ prog_27_method_154_code 1 (Option.some Jvm.ClassFile.FieldType.boolean)) (jr 0) (mw_PV dC dI ad cA E [.ref (ad 9 k)] h) (mw_Qc dC dI ad cA E (some (.inl 1)) h) 0 0 (mw_A ad) := by
  refine mw_metJ (by decide +kernel) (by show 1 ≤ 1; decide) ?_
  intro p e s m args below meth c X hE hP ls hl
  have Y := X
  obtain ⟨hx, hb, -, -, -, hown, hts, -⟩ := X
  obtain ⟨-, e2, -, -, e5, -⟩ := hEE s hE
  have hS : va_S (mw_A ad) s.heap s.heap [] := va_S.rf
  refine va_gets hx hb e5 hS hown (hts _ (mw_good_of (mw_tm4 (List.mem_of_getElem? (i := 4) rfl)) rfl)) (fun _ q => q) (by decide +kernel) ?_
  refine lv_if_eq (tgt := 17) hx hb (off := 14) (by decide +kernel) (by decide) (fun q => absurd q (by decide)) (fun _ => ?_)
  refine lv_aload_n (k := 0) hx hb (by decide +kernel) rfl (lv_at hl 0 rfl) ?_
  refine vk_getf hx hb (e2 k hk).2.1 hS hown (hts _ (mw_good_of (mw_tm13 (List.mem_of_getElem? (i := 131) rfl)) rfl)) (fun _ q => q) (by decide +kernel) ?_
  refine lv_if_ne (tgt := 17) hx hb (off := 7) (by decide +kernel) (by decide) (fun q => absurd rfl q) (fun _ => ?_)
  refine lv_iconst (n := 1) hx hb (by decide +kernel) rfl ?_
  refine lv_goto (tgt := 18) hx hb (off := 4) (by decide +kernel) (by decide) ?_
  exact mw_jret Y hE hEm hh (by decide +kernel) hP hS (by decide +kernel)
theorem mw_sln_lt : ∀ k, k < 27 → mt_sln k < 200 := by decide +kernel
theorem mw_sch_lt : ∀ k, k < 27 → ∀ j, j < mt_sln k → mt_sch k j < 128 ∧ 0 < mt_sch k j := by decide +kernel
theorem jd_length (hEE : mw_ee ad aV E) (hEm : mw_EmP ad E) (hh : mw_hv h) {k : Nat} (hk : k < 27) : Met l ⟨"java/lang/String", "length", "()I"⟩ (jw ⟨"java/lang/String", "length", "()I"⟩ prog_27_method_54_code 1 (Option.some Jvm.ClassFile.FieldType.int)) (jr 1) (mw_PV dC dI ad cA E [.ref (ad 9 k)] h) (mw_Qc dC dI ad cA E (some (.inl (nI (mt_sln k)))) h) 0 0 (mw_A ad) := by
  refine mw_metJ (by decide +kernel) (by show 1 ≤ 1; decide) ?_
  intro p e s m args below meth c X hE hP ls hl
  have Y := X
  obtain ⟨hx, hb, hml, -, -, hown, hts, hK⟩ := X
  obtain ⟨-, e2, -, -, e5, -⟩ := hEE s hE
  have hS : va_S (mw_A ad) s.heap s.heap [] := va_S.rf
  refine lv_aload_n (k := 0) hx hb (by decide +kernel) rfl (lv_at hl 0 rfl) ?_
  refine vk_getf hx hb (e2 k hk).2.2.1 hS hown (hts _ (mw_good_of (mw_tm13 (List.mem_of_getElem? (i := 130) rfl)) rfl)) (fun _ q => q) (by decide +kernel) ?_
  refine va_tlen hx hb (e2 k hk).2.2.2 hS rfl (by decide +kernel) ?_
  refine lv_aload_n (k := 0) hx hb (by decide +kernel) rfl (lv_at hl 0 rfl) ?_
  refine mw_jafter (rest := [.int (nI (mt_sln k))]) (mw_jrunV (As := []) (b := ad 9 k) (cc := prog_27_method_54_code) (own := "java/lang/String") ⟨hx, hb, hml, hown, hts, hK⟩ hE hEm (jd_coder hEE hEm hh hk) ⟨rfl, rfl⟩ (mw_good_of (mw_tm4 (List.mem_of_getElem? (i := 3) rfl)) rfl) (mw_good_of (mw_tm4 (List.mem_of_getElem? (i := 1) rfl)) rfl) (mw_good_of (mw_tm4 (List.mem_of_getElem? (i := 2) rfl)) rfl) (mw_good_of (mw_tm1 (List.mem_of_getElem? (i := 21) rfl)) rfl) (mw_good_of (mw_tm4 (List.mem_of_getElem? (i := 0) rfl)) rfl) (e2 k hk).1 (n := 0) (by decide +kernel) rfl (by decide) (by show 1 ≤ 8; decide) hl.1 (by decide +kernel) hP hS) hS ?_
  intro H1 locs1 hP1 hS1
  refine lv_ishr hx hb (by decide +kernel) ?_
  have e9 : nI (mt_sln k) >>> ((0 : Int32) &&& 31) = nI (mt_sln k) := sb_shr0 _
  rw [e9]
  exact mw_jret Y hE hEm hh rfl hP1 hS1 (by decide +kernel)
theorem jd_pcheck (hEm : mw_EmP ad E) (hh : mw_hv h) {i L : Int32} {v : Value} (hv : v.category = 1) (h0 : ¬ i < 0) (h1 : i < L) : Met l ⟨"jdk/internal/util/Preconditions", "checkIndex", "(IILjava/util/function/BiFunction;)I"⟩ (jw ⟨"jdk/internal/util/Preconditions", "checkIndex", "(IILjava/util/function/BiFunction;)I"⟩ prog_33_method_11_code 3 (Option.some Jvm.ClassFile.FieldType.int)) (jr 0) (mw_PV dC dI ad cA E [.int i, .int L, v] h) (mw_Qc dC dI ad cA E (some (.inl i)) h) 0 0 (mw_A ad) := by
  refine mw_metJ (by decide +kernel) (by cases v <;> first | (simp [lg_sl, Value.category] at hv ⊢; done) | simp_all [lg_sl, Value.category]) ?_
  intro p e s m args below meth c X hE hP ls hl
  have Y := X
  obtain ⟨hx, hb, -, -, -, hown, hts, -⟩ := X
  have hS : va_S (mw_A ad) s.heap s.heap [] := va_S.rf
  refine lv_iload_n (k := 0) hx hb (by decide +kernel) rfl (lv_at hl 0 rfl) ?_
  refine lv_if_lt (tgt := 9) hx hb (off := 8) (by decide +kernel) (by decide) (fun q => absurd q h0) (fun _ => ?_)
  refine lv_iload_n (k := 0) hx hb (by decide +kernel) rfl (lv_at hl 0 rfl) ?_
  refine lv_iload_n (k := 1) hx hb (by decide +kernel) rfl (lv_at hl 1 rfl) ?_
  refine lv_icmp_lt (tgt := 16) hx hb (off := 10) (by decide +kernel) (by decide) (fun _ => ?_) (fun q => absurd h1 q)
  refine lv_iload_n (k := 0) hx hb (by decide +kernel) rfl (lv_at hl 0 rfl) ?_
  exact mw_jret Y hE hEm hh rfl hP hS (by decide +kernel)
theorem jd_check (hEE : mw_ee ad aV E) (hEm : mw_EmP ad E) (hh : mw_hv h) {i L : Int32} (h0 : ¬ i < 0) (h1 : i < L) : Met l ⟨"java/lang/String", "checkIndex", "(II)V"⟩ (jw ⟨"java/lang/String", "checkIndex", "(II)V"⟩ prog_27_method_155_code 2 none) (jr 1) (mw_PV dC dI ad cA E [.int i, .int L] h) (mw_Qc dC dI ad cA E none h) 0 0 (mw_A ad) := by
  refine mw_metJ (by decide +kernel) (by show 2 ≤ 2; decide) ?_
  intro p e s m args below meth c X hE hP ls hl
  have Y := X
  obtain ⟨hx, hb, hml, -, -, hown, hts, hK⟩ := X
  obtain ⟨-, -, -, -, -, e6⟩ := hEE s hE
  have hS : va_S (mw_A ad) s.heap s.heap [] := va_S.rf
  refine lv_iload_n (k := 0) hx hb (by decide +kernel) rfl (lv_at hl 0 rfl) ?_
  refine lv_iload_n (k := 1) hx hb (by decide +kernel) rfl (lv_at hl 1 rfl) ?_
  have key : ∀ v : Value, v.category = 1 → va_Z "jdk/internal/util/Preconditions" "SIOOBE_FORMATTER" "Ljava/util/function/BiFunction;" v (mw_A ad) s s.heap → W p l e (jr 1) s m args below meth c s.heap [] 0 0 (MQ below (mw_Qc dC dI ad cA E none h) args s 0 0 (mw_A ad)) (F0 m 2 ls [.int L, .int i]) := by
    intro v hv hZ
    refine va_gets hx hb hZ hS hown (hts _ (mw_good_of (mw_tm4 (List.mem_of_getElem? (i := 20) rfl)) rfl)) (fun _ q => q) (by decide +kernel) ?_
    refine mw_jafter (rest := []) (mw_jrunS (As := [.int i, .int L, v]) (cc := prog_27_method_155_code) (own := "java/lang/String") ⟨hx, hb, hml, hown, hts, hK⟩ hE hEm (jd_pcheck hEm hh hv h0 h1) ⟨rfl, rfl⟩ (mw_good_of (mw_tm4 (List.mem_of_getElem? (i := 24) rfl)) rfl) (mw_good_of (mw_tm4 (List.mem_of_getElem? (i := 23) rfl)) rfl) (mw_good_of (mw_tm1 (List.mem_of_getElem? (i := 23) rfl)) rfl) (mw_good_of (mw_tm4 (List.mem_of_getElem? (i := 22) rfl)) rfl) (n := 3) (by decide +kernel) rfl (by decide) (by show 0 ≤ 8; decide) hl.1 (by decide +kernel) hP hS) hS ?_
    intro H1 locs1 hP1 hS1
    refine lv_pop hx hb (by decide +kernel) rfl ?_
    exact mw_jretv Y hE hEm hh hP1 hS1 (by decide +kernel)
  rcases e6 with e6 | ⟨t, e6⟩
  · exact key _ rfl e6
  · exact key _ rfl e6
theorem jd_lcharAt (hEE : mw_ee ad aV E) (hEm : mw_EmP ad E) (hh : mw_hv h) {k j : Nat} (hk : k < 27) (hj : j < mt_sln k) : Met l ⟨"java/lang/StringLatin1", "charAt", "([BI)C"⟩ (jw ⟨"java/lang/StringLatin1", "charAt", "([BI)C"⟩ prog_28_method_2_code 2 (Option.some Jvm.ClassFile.FieldType.char)) (jr 2) (mw_PV dC dI ad cA E [.ref (aV k), .int (nI j)] h) (mw_Qc dC dI ad cA E (some (.inl (nI (mt_sch k j)))) h) 0 0 (mw_A ad) := by
  refine mw_metJ (by decide +kernel) (by show 2 ≤ 2; decide) ?_
  intro p e s m args below meth c X hE hP ls hl
  have Y := X
  obtain ⟨hx, hb, hml, -, -, hown, hts, hK⟩ := X
  obtain ⟨-, e2, -⟩ := hEE s hE
  have hS : va_S (mw_A ad) s.heap s.heap [] := va_S.rf
  have hn := mw_sln_lt k hk
  have hc := (mw_sch_lt k hk j hj).1
  refine lv_iload_n (k := 1) hx hb (by decide +kernel) rfl (lv_at hl 1 rfl) ?_
  refine lv_aload_n (k := 0) hx hb (by decide +kernel) rfl (lv_at hl 0 rfl) ?_
  refine va_tlen hx hb (e2 k hk).2.2.2 hS rfl (by decide +kernel) ?_
  refine mw_jafterv (rest := []) (mw_jrunS (As := [.int (nI j), .int (nI (mt_sln k))]) (cc := prog_28_method_2_code) (own := "java/lang/StringLatin1") ⟨hx, hb, hml, hown, hts, hK⟩ hE hEm (jd_check hEE hEm hh (nI_pos (by omega)) (nI_lt hj (by omega))) ⟨rfl, rfl⟩ (mw_good_of (mw_tm4 (List.mem_of_getElem? (i := 19) rfl)) rfl) (mw_good_of (mw_tm4 (List.mem_of_getElem? (i := 18) rfl)) rfl) (mw_good_of (mw_tm1 (List.mem_of_getElem? (i := 21) rfl)) rfl) (mw_good_of (mw_tm4 (List.mem_of_getElem? (i := 17) rfl)) rfl) (n := 2) (by decide +kernel) rfl (by decide) (by show 0 ≤ 8; decide) hl.1 (by decide +kernel) hP hS) hS ?_
  intro H1 locs1 hP1 hS1
  refine lv_aload_n (k := 0) hx hb (by decide +kernel) rfl (lv_at hl 0 rfl) ?_
  refine lv_iload_n (k := 1) hx hb (by decide +kernel) rfl (lv_at hl 1 rfl) ?_
  refine va_tb hx hb (e2 k hk).2.2.2 hS1 (nI_in hj (by omega)) (v := .int (nI (mt_sch k j))) (by rw [nI_clamp (by omega)]) (by decide +kernel) ?_
  refine lv_sipush (n := 255) (v := 255) hx hb (by decide +kernel) (by decide +kernel) ?_
  refine lv_iand hx hb (by decide +kernel) ?_
  have e9 : nI (mt_sch k j) &&& 255 = nI (mt_sch k j) := by
    rw [pk_andN (n := mt_sch k j) (by omega) 8 (by decide), Nat.mod_eq_of_lt (by omega)]
  rw [e9]
  refine lv_i2c (v := nI (mt_sch k j)) hx hb (by decide +kernel) ?_ ?_
  · rw [pk_char, pk_tn (by omega), Nat.mod_eq_of_lt (by omega)]
  · exact mw_jret Y hE hEm hh (pk_charN (by omega)).1 hP1 hS1 (by decide +kernel)
theorem jd_charAt (hEE : mw_ee ad aV E) (hEm : mw_EmP ad E) (hh : mw_hv h) {k j : Nat} (hk : k < 27) (hj : j < mt_sln k) : Met l ⟨"java/lang/String", "charAt", "(I)C"⟩ (jw ⟨"java/lang/String", "charAt", "(I)C"⟩ prog_27_method_56_code 2 (Option.some Jvm.ClassFile.FieldType.char)) (jr 3) (mw_PV dC dI ad cA E [.ref (ad 9 k), .int (nI j)] h) (mw_Qc dC dI ad cA E (some (.inl (nI (mt_sch k j)))) h) 0 0 (mw_A ad) := by
  refine mw_metJ (by decide +kernel) (by show 2 ≤ 2; decide) ?_
  intro p e s m args below meth c X hE hP ls hl
  have Y := X
  obtain ⟨hx, hb, hml, -, -, hown, hts, hK⟩ := X
  obtain ⟨-, e2, -⟩ := hEE s hE
  have hS : va_S (mw_A ad) s.heap s.heap [] := va_S.rf
  have hc := (mw_sch_lt k hk j hj).1
  refine lv_aload_n (k := 0) hx hb (by decide +kernel) rfl (lv_at hl 0 rfl) ?_
  refine mw_jafter (rest := []) (mw_jrunV (As := []) (b := ad 9 k) (cc := prog_27_method_56_code) (own := "java/lang/String") ⟨hx, hb, hml, hown, hts, hK⟩ hE hEm (jd_isLatin1 hEE hEm hh hk) ⟨rfl, rfl⟩ (mw_good_of (mw_tm4 (List.mem_of_getElem? (i := 13) rfl)) rfl) (mw_good_of (mw_tm4 (List.mem_of_getElem? (i := 11) rfl)) rfl) (mw_good_of (mw_tm4 (List.mem_of_getElem? (i := 12) rfl)) rfl) (mw_good_of (mw_tm1 (List.mem_of_getElem? (i := 21) rfl)) rfl) (mw_good_of (mw_tm4 (List.mem_of_getElem? (i := 10) rfl)) rfl) (e2 k hk).1 (n := 0) (by decide +kernel) rfl (by decide) (by show 0 ≤ 8; decide) hl.1 (by decide +kernel) hP hS) hS ?_
  intro H1 locs1 hP1 hS1
  refine lv_if_eq (tgt := 16) hx hb (off := 12) (by decide +kernel) (by decide) (fun q => absurd q (by decide)) (fun _ => ?_)
  refine lv_aload_n (k := 0) hx hb (by decide +kernel) rfl (lv_at hl 0 rfl) ?_
  refine vk_getf hx hb (e2 k hk).2.2.1 hS1 hown (hts _ (mw_good_of (mw_tm13 (List.mem_of_getElem? (i := 130) rfl)) rfl)) (fun _ q => q) (by decide +kernel) ?_
  refine lv_iload_n (k := 1) hx hb (by decide +kernel) rfl (lv_at hl 1 rfl) ?_
  refine mw_jafter (rest := []) (mw_jrunS (As := [.ref (aV k), .int (nI j)]) (cc := prog_27_method_56_code) (own := "java/lang/String") ⟨hx, hb, hml, hown, hts, hK⟩ hE hEm (jd_lcharAt hEE hEm hh hk hj) ⟨rfl, rfl⟩ (mw_good_of (mw_tm4 (List.mem_of_getElem? (i := 16) rfl)) rfl) (mw_good_of (mw_tm4 (List.mem_of_getElem? (i := 15) rfl)) rfl) (mw_good_of (mw_tm1 (List.mem_of_getElem? (i := 22) rfl)) rfl) (mw_good_of (mw_tm4 (List.mem_of_getElem? (i := 14) rfl)) rfl) (n := 2) (by decide +kernel) rfl (by decide) (by show 0 ≤ 8; decide) hl.1 (by decide +kernel) hP1 hS1) hS1 ?_
  intro H2 locs2 hP2 hS2
  exact mw_jret Y hE hEm hh (pk_charN (by omega)).1 hP2 hS2 (by decide +kernel)
theorem jd_ordinal (hEE : mw_ee ad aV E) (hEm : mw_EmP ad E) (hh : mw_hv h) {g k : Nat} (h16 : 16 ≤ g) (h18 : g ≤ 18) (hk : k < (mw_en g).length) (hk2 : k < 23) : Met l ⟨"java/lang/Enum", "ordinal", "()I"⟩ (jw ⟨"java/lang/Enum", "ordinal", "()I"⟩ prog_20_method_2_code 1 (Option.some Jvm.ClassFile.FieldType.int)) (jr 0) (mw_PV dC dI ad cA E [.ref (ad g k)] h) (mw_Qc dC dI ad cA E (some (.inl (nI k))) h) 0 0 (mw_A ad) := by
  refine mw_metJ (by decide +kernel) (by show 1 ≤ 1; decide) ?_
  intro p e s m args below meth c X hE hP ls hl
  have Y := X
  obtain ⟨hx, hb, -, -, -, hown, hts, -⟩ := X
  obtain ⟨e1, -⟩ := hEE s hE
  have hS : va_S (mw_A ad) s.heap s.heap [] := va_S.rf
  refine lv_aload_n (k := 0) hx hb (by decide +kernel) rfl (lv_at hl 0 rfl) ?_
  refine va_getE (ref := "java/lang/Enum") hx hb (e1 g h16 h18) hk hS hown List.mem_cons_self (hts _ (mw_good_of (mw_tm13 (List.mem_of_getElem? (i := 133) rfl)) rfl)) (fun _ q => q) (by decide +kernel) ?_
  have e9 : ((List.range 23).map nI).getD k 0 = nI k := by simp [hk2]
  show W _ _ _ _ _ _ _ _ _ _ _ _ _ _ _ (F0 m 4 ls [.int (((List.range 23).map nI).getD k 0)])
  rw [e9]
  exact mw_jret Y hE hEm hh rfl hP hS (by decide +kernel)
end JDK
