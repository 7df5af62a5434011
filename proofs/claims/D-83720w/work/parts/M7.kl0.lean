/-! THE LAW over the real machine: calls of wrappers; what holds at the loop's head -/
section
variable {l : Launch} {s0 : State} {dC : Nat → ClassId} {dI : Nat → Nat → Nat} {ad : Nat → Nat → Nat} {aV : Nat → Nat} {cA : Nat → ClassId} {qo : Nat}
variable {p : Program} {e : Env} {R : Room} {s : State} {m : MethodId} {args : Array Value} {below : List Frame} {meth : Method} {c : Code} {H : Heap} {locs : List Loc} {cells slots : Nat} {Q : State → Prop} {cc cc9 : ByteArray} {nL maxL pc idx : Nat} {ls : Array Slot} {rest As : List Value} {h h' : mj_H} {f : Nat → Int64}
theorem kr_S {y : MethodName} {hs : List (Nat × Nat × Nat × Nat)} {Qc : Array Value → State → Outcome → State → Prop} {free : Addr → Prop} (F : kFr dC dI cA p s0 s m args c cc nL) (hM : Met l y (kWs y cc9 maxL hs) kRm (kPc dC dI ad cA s0 qo As h f) Qc 1 6 free)
    (hcw : Cond.codeWith y cc9 maxL (some .int) hs ∈ mw_good) (hst : Cond.static y ∈ mw_good) (hini : Cond.initialized y.cls ∈ mw_good) (hlink : Cond.methodLink "LinkedCoresLaw" idx y ∈ mw_good) (hy : y.cls ≠ "java/lang/invoke/MethodHandle" ∧ y.cls ≠ "java/lang/invoke/VarHandle") (hlen : (parseMethodDescriptor y.desc).map (fun d => d.parameters.length) = some As.length)
    (hmL : maxL ≤ 20) (hr8 : (rest.map fun v => v.category).sum ≤ 8) (hls : ls.size = nL) (hP : va_P (dC, dI) mw_cl (mw_ws ad cA h) H) (hO : va_at (dC, dI) mw_cl (kOut cA qo f) H) (hH : ∀ q, q < s0.heap.size → H[q]? = s0.heap[q]?) (hd : decode cc pc = .ok (.invokestatic idx, 3)) (hR : 1332 ≤ R.frames ∧ 43000 ≤ R.locals) (hc : cells + 1 ≤ R.cells ∧ slots + 6 ≤ R.slots) :
    va_Run p l e R s m args below meth c H locs cells slots 1 6 (F0 m pc ls (As.reverse ++ rest)) rest (Qc As.toArray) free := by
  obtain ⟨hx, hb, hml, hown, hts, hK, hW0⟩ := F
  have hgood : GoodIn mw_good (kWs y cc9 maxL hs) := fun w hw => by
    rcases List.mem_cons.mp hw with rfl | hw
    · exact mw_good_good _ hcw
    · exact mw_good_good _ hw
  have hws := pay_in hts hgood
  have hBk : Back l R p e below s args y 3 8 (PreOf R 1 6 (kPc dC dI ad cA s0 qo As h f)) (PostOf Qc 1 6 free) := by
    refine Back.of_freeWith (handlers := hs) (S := headSpec (kWs y cc9 maxL hs) kRm) (P := kPc dC dI ad cA s0 qo As h f) (K := fun _ _ _ _ _ => True) (Q := fun a st o t => Qc a st o t ∧ ∃ L, FrameEnd st o t L 1 6 ∧ ∀ q ∈ L, free q.base) (bytes := cc9) (maxL := maxL) (ret := some .int)
      (E := fun a st o t L k n => k = 1 ∧ n = 6 ∧ ∀ q ∈ L, free q.base) hM (by show 1331 + 1 ≤ R.frames; omega) (by show 8 + (maxL + 11) + 42900 ≤ R.locals; omega) ?_ ?_ (fun _ _ _ _ _ _ _ _ _ => trivial) ?_ ?_
    · intro m meth c A a X hp
      exact ⟨atoms_intro fun w hw => hws w hw _ _ X.warmed, hws _ List.mem_cons_self _ _ X.warmed, hws _ (List.mem_cons_of_mem _ hini) _ _ X.warmed, hp.1, hp.2.1⟩
    · intro m meth c A a g mk X hp
      exact kPc_blind _ _ _ _ hp.2.2
    · intro a st o t ⟨hq, L, hF, hL⟩
      exact ⟨L, 1, 6, hF, rfl, rfl, hL⟩
    · intro m meth c A a g mk v t L k n X hp hq hF ⟨e1, e2, hL⟩
      subst e1; subst e2
      exact ⟨g, mk, t, L, rfl, rfl, hq.1, rfl, hL, rfl, rfl⟩
  have hcode : (Cond.codeWith y cc9 maxL (some .int) hs).before args s = true := hts _ hcw
  intro T hT X
  obtain ⟨mk, methM, cM, hnamed, hmethM, -, -, -, -, -, -, hsigM⟩ := Cond.codeWith_spec hcode
  have hstatic : methM.isStatic = true := Cond.static_spec hnamed hmethM (hts _ hst)
  obtain ⟨kP, hkP, -⟩ := className_of_methodNamed hnamed
  have hinitP : kP.init = .initialized := Cond.initialized_spec (findClass_of_methodNamed hnamed) hkP (hts _ hini)
  have hl9 : ∀ sig, parseMethodDescriptor y.desc = some sig → As.length = sig.parameters.length := by
    intro sig hsig
    rw [hsig] at hlen
    exact (Option.some.inj hlen).symm
  obtain ⟨vm₁, X₁, hstep₁⟩ := X.invokestatic hx hown (hts _ hlink) hnamed hmethM hstatic hkP hinitP hy (g := F0 m pc ls (As.reverse ++ rest)) rfl (argsL := As) (rest := rest) (hl9 _ hsigM) rfl (by rw [hb]; exact hd)
  obtain ⟨v, B, X', hpost, hsteps⟩ := hBk m meth c ⟨T.setVm vm₁, locs, cells, slots⟩ { (F0 m pc ls (As.reverse ++ rest)) with stack := rest } (.invokestatic idx) mk As.toArray X₁ rfl (hls.trans hml.symm) (by rw [hb]; exact hd) (lv_room hr8) (X₁.named hnamed) ⟨hc.1, hc.2, rfl, by show va_P _ _ _ T.heap; rw [hT]; exact hP, by show va_at _ _ _ T.heap; rw [hT]; exact hO, mw_K.moved X₁.warmed hK, hW0.trans X₁.warmed, fun q hq => by show T.heap[q]? = _; rw [hT]; exact hH q hq⟩
  obtain ⟨U', l2, c2, s2⟩ := B
  obtain ⟨g', mk', t, L, e1, e2, hq, h1, hL, h2, h3⟩ := hpost
  dsimp only [Pt.U, Pt.locs, Pt.cells, Pt.slots] at X' e1 e2 h1 h2 h3 hsteps
  subst h1; subst h2; subst h3
  exact ⟨v, (T.setVm vm₁).calling g' mk' As.toArray, t, U', L, hT, X', hL, e1, e2, hq, fun target hs => hstep₁ _ fun acts => by rw [doInvoke_state]; exact hsteps.trans hs⟩
/-- which cells the law may change: all that are new -/
def kNew (s : State) : Nat → Prop := fun q => s.heap.size ≤ q
/-- a wrapper is called, whatever comes of it -/
theorem kl_w {y : MethodName} {hs : List (Nat × Nat × Nat × Nat)} {EX : List Nat} {K : Nat} {R1 R2 : mj_H → Option mj_O} (k : kH l s ad aV) (hqn : s.heap.size ≤ qo) (F : kFr dC dI cA p s s m args c cc nL)
    (hcw : Cond.codeWith y cc9 maxL (some .int) hs ∈ mw_good) (hst : Cond.static y ∈ mw_good) (hini : Cond.initialized y.cls ∈ mw_good) (hlink : Cond.methodLink "LinkedCoresLaw" idx y ∈ mw_good) (hy : y.cls ≠ "java/lang/invoke/MethodHandle" ∧ y.cls ≠ "java/lang/invoke/VarHandle") (hlen : (parseMethodDescriptor y.desc).map (fun d => d.parameters.length) = some As.length)
    (hmL : maxL ≤ 20) (hls : ls.size = nL) (hP : va_P (dC, dI) mw_cl (mw_ws ad cA h) H) (hO : va_at (dC, dI) mw_cl (kOut cA qo f) H) (hS : va_S (kNew s) s.heap H locs) (hd : decode cc pc = .ok (.invokestatic idx, 3)) (hR : 1332 ≤ R.frames ∧ 43000 ≤ R.locals) (hc : cells + 1 ≤ R.cells ∧ slots + 6 ≤ R.slots)
    (hj : jA EX K R1 R2 h)
    (Mr : ∀ v h1, R1 h = some (.inl (some (vI v), h1)) → Met l y (kWs y cc9 maxL hs) kRm (kPc dC dI ad cA s qo As h f) (kQc dC dI ad cA qo h1 (fun r f1 => r = 0 ∧ f1 0 = v.toInt64)) 1 6 (kAo ad qo))
    (Mt : ∀ x n0 h1, R1 h = some (.inr (x, h1)) → EX[n0]? = some x → Met l y (kWs y cc9 maxL hs) kRm (kPc dC dI ad cA s qo As h f) (kQc dC dI ad cA qo h1 (fun r _ => r = nI (n0 + 1))) 1 6 (kAo ad qo)) (hEX : EX.length ≤ 9)
    (kk : ∀ (r v2 : Int32) (h1 h2 : mj_H) (f1 : Nat → Int64) (H1 : Heap) (locs1 : List Loc), va_P (dC, dI) mw_cl (mw_ws ad cA h1) H1 → va_at (dC, dI) mw_cl (kOut cA qo f1) H1 → mw_hv h1 → va_S (kNew s) s.heap H1 locs1 → R2 h1 = some (.inl (some (vI v2), h2)) → h2.1 15 0 0 = r → (r = 0 → f1 0 = v2.toInt64) → JW K h2 → W p l e R s m args below meth c H1 locs1 (cells + 1) (slots + 6) Q (F0 m (pc + 3) ls [.int r])) :
    W p l e R s m args below meth c H locs cells slots Q (F0 m pc ls (As.reverse ++ [])) := by
  have hH : ∀ q, q < s.heap.size → H[q]? = s.heap[q]? := fun q hq => hS.2.1 q hq (fun z => by have z : s.heap.size ≤ q := z; omega)
  have hA : ∀ q, kAo ad qo q → kNew s q := fun q z => by
    rcases z with z | rfl
    · exact k.new z
    · exact hqn
  rcases hj with ⟨v, h1, h2, e1, e2, z2, J2⟩ | ⟨x, n0, v, h1, h2, e1, hn, e2, z2, J2⟩
  · refine va_calli (a := As.toArray) (kr_S (rest := []) F (Mr v h1 e1) hcw hst hini hlink hy hlen hmL (Nat.zero_le _) hls hP hO hH hd hR hc) hS (fun q _ z => hA q z) (fun q z => hA q z) (fun r f1 t H1 locs1 hth hvm hpost hB hz hk hS1 => ?_)
    obtain ⟨rfl, hf1⟩ := hpost
    rw [hth] at hB
    exact kk 0 v h1 h2 f1 H1 locs1 hB.1 hB.2.1 hB.2.2 hS1 e2 z2 (fun _ => hf1) J2
  · refine va_calli (a := As.toArray) (kr_S (rest := []) F (Mt x n0 h1 e1 hn) hcw hst hini hlink hy hlen hmL (Nat.zero_le _) hls hP hO hH hd hR hc) hS (fun q _ z => hA q z) (fun q z => hA q z) (fun r f1 t H1 locs1 hth hvm hpost hB hz hk hS1 => ?_)
    have hpost : r = nI (n0 + 1) := hpost
    subst hpost
    rw [hth] at hB
    have hn9 : n0 < EX.length := (List.getElem?_eq_some_iff.mp hn).1
    exact kk _ v h1 h2 f1 H1 locs1 hB.1 hB.2.1 hB.2.2 hS1 e2 z2 (fun z => absurd ((nI_eq (by omega) (by decide : (0 : Nat) < 2 ^ 31)).mp z) (by omega)) J2
theorem kl_wv {y : MethodName} {hs : List (Nat × Nat × Nat × Nat)} {EX : List Nat} {K : Nat} {R1 R2 : mj_H → Option mj_O} (k : kH l s ad aV) (hqn : s.heap.size ≤ qo) (F : kFr dC dI cA p s s m args c cc nL)
    (hcw : Cond.codeWith y cc9 maxL (some .int) hs ∈ mw_good) (hst : Cond.static y ∈ mw_good) (hini : Cond.initialized y.cls ∈ mw_good) (hlink : Cond.methodLink "LinkedCoresLaw" idx y ∈ mw_good) (hy : y.cls ≠ "java/lang/invoke/MethodHandle" ∧ y.cls ≠ "java/lang/invoke/VarHandle") (hlen : (parseMethodDescriptor y.desc).map (fun d => d.parameters.length) = some As.length)
    (hmL : maxL ≤ 20) (hls : ls.size = nL) (hP : va_P (dC, dI) mw_cl (mw_ws ad cA h) H) (hO : va_at (dC, dI) mw_cl (kOut cA qo f) H) (hS : va_S (kNew s) s.heap H locs) (hd : decode cc pc = .ok (.invokestatic idx, 3)) (hR : 1332 ≤ R.frames ∧ 43000 ≤ R.locals) (hc : cells + 1 ≤ R.cells ∧ slots + 6 ≤ R.slots)
    (hj : jV EX K R1 R2 h)
    (Mr : ∀ h1, R1 h = some (.inl (none, h1)) → Met l y (kWs y cc9 maxL hs) kRm (kPc dC dI ad cA s qo As h f) (kQc dC dI ad cA qo h1 (fun r _ => r = 0)) 1 6 (kAo ad qo))
    (Mt : ∀ x n0 h1, R1 h = some (.inr (x, h1)) → EX[n0]? = some x → Met l y (kWs y cc9 maxL hs) kRm (kPc dC dI ad cA s qo As h f) (kQc dC dI ad cA qo h1 (fun r _ => r = nI (n0 + 1))) 1 6 (kAo ad qo))
    (kk : ∀ (r : Int32) (h1 h2 : mj_H) (f1 : Nat → Int64) (H1 : Heap) (locs1 : List Loc), va_P (dC, dI) mw_cl (mw_ws ad cA h1) H1 → va_at (dC, dI) mw_cl (kOut cA qo f1) H1 → mw_hv h1 → va_S (kNew s) s.heap H1 locs1 → R2 h1 = some (.inl (none, h2)) → h2.1 15 0 0 = r → JW K h2 → W p l e R s m args below meth c H1 locs1 (cells + 1) (slots + 6) Q (F0 m (pc + 3) ls [.int r])) :
    W p l e R s m args below meth c H locs cells slots Q (F0 m pc ls (As.reverse ++ [])) := by
  have hH : ∀ q, q < s.heap.size → H[q]? = s.heap[q]? := fun q hq => hS.2.1 q hq (fun z => by have z : s.heap.size ≤ q := z; omega)
  have hA : ∀ q, kAo ad qo q → kNew s q := fun q z => by
    rcases z with z | rfl
    · exact k.new z
    · exact hqn
  rcases hj with ⟨h1, h2, e1, e2, z2, J2⟩ | ⟨x, n0, h1, h2, e1, hn, e2, z2, J2⟩
  · refine va_calli (a := As.toArray) (kr_S (rest := []) F (Mr h1 e1) hcw hst hini hlink hy hlen hmL (Nat.zero_le _) hls hP hO hH hd hR hc) hS (fun q _ z => hA q z) (fun q z => hA q z) (fun r f1 t H1 locs1 hth hvm hpost hB hz hk hS1 => ?_)
    have hpost : r = 0 := hpost
    subst hpost
    rw [hth] at hB
    exact kk 0 h1 h2 f1 H1 locs1 hB.1 hB.2.1 hB.2.2 hS1 e2 z2 J2
  · refine va_calli (a := As.toArray) (kr_S (rest := []) F (Mt x n0 h1 e1 hn) hcw hst hini hlink hy hlen hmL (Nat.zero_le _) hls hP hO hH hd hR hc) hS (fun q _ z => hA q z) (fun q z => hA q z) (fun r f1 t H1 locs1 hth hvm hpost hB hz hk hS1 => ?_)
    have hpost : r = nI (n0 + 1) := hpost
    subst hpost
    rw [hth] at hB
    exact kk _ h1 h2 f1 H1 locs1 hB.1 hB.2.1 hB.2.2 hS1 e2 z2 J2
/-- a method of the twin, or of the component, is called and returns an int -/
theorem kl_i {d mj g i : Nat} {as : List mj_V} {v : Int32} (k : kH l s ad aV) (F : kFr dC dI cA p s s m args c cc nL) (hqn : s.heap.size ≤ qo) (hqA : ¬ mw_A ad qo) (hmj : mj < 366) (hsta : mw_sta mj = false) (hlink : Cond.methodLink "LinkedCoresLaw" idx (mw_y mj) ∈ mw_good) (hg : (g, i) ∈ mw_val) (hgi : mo_is mg (mw_mc mj) g = true)
    (hRR : mj_R mg 1322 (mt_code mj) (0, mj_args 0 (vR g i :: as), [], h) = some (.inl (some (vI v), h'))) (hw : mj_wd (vR g i :: as) ≤ mw_l mj) (hok : ∀ v ∈ as, mw_vd v) (hh : mw_hv h) (hlen : as.length = mw_na mj) (hr8 : (rest.map fun v => v.category).sum ≤ 8) (hls : ls.size = nL) (hP : va_P (dC, dI) mw_cl (mw_ws ad cA h) H) (hO : va_at (dC, dI) mw_cl (kOut cA qo f) H) (hS : va_S (kNew s) s.heap H locs) (hd : decode cc pc = .ok (.invokevirtual idx, 3)) (hR : 1332 ≤ R.frames ∧ 43000 ≤ R.locals) (hc : cells ≤ R.cells ∧ slots ≤ R.slots)
    (kk : ∀ (H1 : Heap) (locs1 : List Loc), va_P (dC, dI) mw_cl (mw_ws ad cA h') H1 → va_at (dC, dI) mw_cl (kOut cA qo f) H1 → mw_hv h' → va_S (kNew s) s.heap H1 locs1 → W p l e R s m args below meth c H1 locs1 cells slots Q (F0 m (pc + 3) ls (.int v :: rest))) :
    W p l e R s m args below meth c H locs cells slots Q (F0 m pc ls ((as.map (mw_v ad)).reverse ++ .ref (ad g i) :: rest)) := by
  have hH : ∀ q, q < s.heap.size → H[q]? = s.heap[q]? := fun q hq => hS.2.1 q hq (fun z => by have z : s.heap.size ≤ q := z; omega)
  have hM := km_ret (dC := dC) (dI := dI) (cA := cA) k hmj hRR hw (fun v hv => by rcases List.mem_cons.mp hv with rfl | hv; exact hg; exact hok v hv) hh
  have hmax := mw_maxl mj (by omega)
  refine va_calli (a := (Value.ref (ad g i) :: as.map (mw_v ad)).toArray) (kr_V k F hmj hsta hlink hg hgi hM hlen hr8 hls hP hH hd ⟨by show 1322 + 8 + 1 ≤ R.frames; omega, by show 8 + (mw_l mj + 11) + (32 * 1322 + 512) ≤ R.locals; omega⟩ hc) hS (fun q _ z => k.new z) (fun q z => k.new z) (fun r u t H1 locs1 hth hvm hpost hB hz hk hS1 => ?_)
  have hpost : r = v := hpost
  subst hpost
  exact kk H1 locs1 (by rw [← hth]; exact hB.1) (hO.kept (hk qo hO.lt hqA)) hB.2.2.2 hS1
theorem kl_v {d mj g i : Nat} {as : List mj_V} (k : kH l s ad aV) (F : kFr dC dI cA p s s m args c cc nL) (hqn : s.heap.size ≤ qo) (hqA : ¬ mw_A ad qo) (hmj : mj < 366) (hsta : mw_sta mj = false) (hlink : Cond.methodLink "LinkedCoresLaw" idx (mw_y mj) ∈ mw_good) (hg : (g, i) ∈ mw_val) (hgi : mo_is mg (mw_mc mj) g = true)
    (hRR : mj_R mg 1322 (mt_code mj) (0, mj_args 0 (vR g i :: as), [], h) = some (.inl (none, h'))) (hw : mj_wd (vR g i :: as) ≤ mw_l mj) (hok : ∀ v ∈ as, mw_vd v) (hh : mw_hv h) (hlen : as.length = mw_na mj) (hr8 : (rest.map fun v => v.category).sum ≤ 8) (hls : ls.size = nL) (hP : va_P (dC, dI) mw_cl (mw_ws ad cA h) H) (hO : va_at (dC, dI) mw_cl (kOut cA qo f) H) (hS : va_S (kNew s) s.heap H locs) (hd : decode cc pc = .ok (.invokevirtual idx, 3)) (hR : 1332 ≤ R.frames ∧ 43000 ≤ R.locals) (hc : cells ≤ R.cells ∧ slots ≤ R.slots)
    (kk : ∀ (H1 : Heap) (locs1 : List Loc), va_P (dC, dI) mw_cl (mw_ws ad cA h') H1 → va_at (dC, dI) mw_cl (kOut cA qo f) H1 → mw_hv h' → va_S (kNew s) s.heap H1 locs1 → W p l e R s m args below meth c H1 locs1 cells slots Q (F0 m (pc + 3) ls rest)) :
    W p l e R s m args below meth c H locs cells slots Q (F0 m pc ls ((as.map (mw_v ad)).reverse ++ .ref (ad g i) :: rest)) := by
  have hH : ∀ q, q < s.heap.size → H[q]? = s.heap[q]? := fun q hq => hS.2.1 q hq (fun z => by have z : s.heap.size ≤ q := z; omega)
  have hM := km_ret (dC := dC) (dI := dI) (cA := cA) k hmj hRR hw (fun v hv => by rcases List.mem_cons.mp hv with rfl | hv; exact hg; exact hok v hv) hh
  have hmax := mw_maxl mj (by omega)
  refine va_callv (a := (Value.ref (ad g i) :: as.map (mw_v ad)).toArray) (kr_V k F hmj hsta hlink hg hgi hM hlen hr8 hls hP hH hd ⟨by show 1322 + 8 + 1 ≤ R.frames; omega, by show 8 + (mw_l mj + 11) + (32 * 1322 + 512) ≤ R.locals; omega⟩ hc) hS (fun q _ z => k.new z) (fun q z => k.new z) (fun u t H1 locs1 hth hvm hpost hB hz hk hS1 => ?_)
  exact kk H1 locs1 (by rw [← hth]; exact hB.1) (hO.kept (hk qo hO.lt hqA)) hB.2.2.2 hS1
end
