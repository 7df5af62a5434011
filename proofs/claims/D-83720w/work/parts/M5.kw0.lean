/-! THE LAW over the real machine: its wrappers, in general -/
/-- where the law keeps an answer -/
def kOut (cA : Nat → ClassId) (qo : Nat) (f : Nat → Int64) : Nat × va_E := (qo, .inl (cA 3, 1, .inr (.inl f)))
def kAo (ad : Nat → Nat → Nat) (qo : Nat) : Nat → Prop := fun q => mw_A ad q ∨ q = qo
def kRm : Room := { frames := 1331, cells := 1, slots := 6, locals := 42900 }
def kWs (y : MethodName) (cc : ByteArray) (nL : Nat) (hs : List (Nat × Nat × Nat × Nat)) : List Cond := Cond.codeWith y cc nL (some .int) hs :: mw_good
theorem kMet {l : Launch} {y : MethodName} {ws : List Cond} {rm : Room} {Pc : Array Value → State → Prop} {Qc : Array Value → State → Outcome → State → Prop} {mc ms : Nat} {free : Addr → Prop} {cc : ByteArray} {maxL : Nat} {ret : Option FieldType} {hs : List (Nat × Nat × Nat × Nat)}
    (hy : plainName y.cls = true) (hw : Cond.codeWith y cc maxL ret hs ∈ ws)
    (body : ∀ p e s m args below meth c s₁, BodyLoose p l y (headSpec ws rm) cc maxL ret e s m args below meth c s₁ → c.maxLocals = maxL → c.exceptionTable.toList = tableOf hs → Pc args s →
      W p l e (headSpec ws rm).room s m args below meth c s.heap [] 0 0 (MQ below Qc args s mc ms free) (entryFrame m args maxL)) : Met l y ws rm Pc Qc mc ms free := by
  refine MetFree.of_bodyS (code := cc) (maxLocals := maxL) (ret := ret) hy ?_ ?_
  · intro args s m h hn
    obtain ⟨m', meth, c, h0, h1, h2, h3, h4, -, h5, h6, -⟩ := Cond.codeWith_spec (atoms_spec (ws := ws) h _ hw)
    cases hn.symm.trans h0
    exact ⟨meth, c, h1, h2, h3, h4, h5, h6⟩
  · intro p e s m args below meth c s₁ B hml hP _
    have hh0 : s₁.heap = s.heap := by rw [B.state]; rfl
    have htab : c.exceptionTable.toList = tableOf hs := by
      obtain ⟨m', meth', c', h0, h1, h2, -, -, h5, -⟩ := Cond.codeWith_spec (atoms_spec (ws := ws) B.pre _ hw)
      cases B.named.symm.trans h0
      cases B.method.symm.trans h1
      cases (Stand.of_body B).code.symm.trans h2
      rw [← h5, table_eq]
    obtain ⟨t, a1, o, b1, b2, b3⟩ := body p e s m args below meth c s₁ B hml htab hP s₁ hh0 (Stand.of_body B)
    exact ⟨t, o, a1, b1, b2, ⟨b3.1, b3.2⟩⟩
section
variable {l : Launch} {s0 : State} {dC : Nat → ClassId} {dI : Nat → Nat → Nat} {ad : Nat → Nat → Nat} {aV : Nat → Nat} {cA : Nat → ClassId} {qo : Nat}
theorem kW2_D (k : kH l s0 ad aV) (hq : ¬ mw_A ad qo) (h : mj_H) (f : Nat → Int64) : va_D (kAo ad qo) (mw_ws ad cA h ++ [kOut cA qo f]) := by
  refine va_D.app ((k.dd h).weaken (fun _ _ _ z => Or.inl z)) ⟨fun i j p q hp hq' _ => ?_, fun i q hq' => ?_⟩ (fun i j p q hp hq' e => ?_)
  · have h1 := (List.getElem?_eq_some_iff.mp hp).1
    have h2 := (List.getElem?_eq_some_iff.mp hq').1
    simp at h1 h2
    omega
  · have h1 := (List.getElem?_eq_some_iff.mp hq').1
    simp at h1
    subst h1
    cases hq'
    exact Or.inr rfl
  · have h1 := (List.getElem?_eq_some_iff.mp hq').1
    simp at h1
    subst h1
    cases hq'
    have e : p.1 = qo := e
    rw [← e] at hq
    exact hq ((k.dd (cA := cA) h).2 i p hp)
theorem kW2_len (h : mj_H) : (mw_ws ad cA h).length = 200 := by unfold mw_ws; rw [List.length_map]; exact mw_all_len
theorem kW2_P {h : mj_H} {f : Nat → Int64} {H : Heap} (h1 : va_P (dC, dI) mw_cl (mw_ws ad cA h) H) (h2 : va_at (dC, dI) mw_cl (kOut cA qo f) H) : va_P (dC, dI) mw_cl (mw_ws ad cA h ++ [kOut cA qo f]) H := h1.app (fun i q hq => by
  have z := (List.getElem?_eq_some_iff.mp hq).1
  simp at z
  subst z
  cases hq
  exact h2)
theorem kW2_1 {h : mj_H} {x : Nat × va_E} {H : Heap} (h1 : va_P (dC, dI) mw_cl (mw_ws ad cA h ++ [x]) H) : va_P (dC, dI) mw_cl (mw_ws ad cA h) H ∧ va_at (dC, dI) mw_cl x H := by
  refine ⟨fun i q hq => h1 i q ?_, h1 200 x ?_⟩
  · rw [List.getElem?_append_left (List.getElem?_eq_some_iff.mp hq).1]; exact hq
  · rw [List.getElem?_append_right (by rw [kW2_len]; exact Nat.le_refl _), kW2_len]; rfl
theorem kW2_set (h : mj_H) (x y : Nat × va_E) : (mw_ws ad cA h ++ [x]).set 200 y = mw_ws ad cA h ++ [y] := by
  rw [List.set_append_right _ _ (by rw [kW2_len]; exact Nat.le_refl _), kW2_len]; rfl
/-- a wrapper's start and end -/
def kPc (dC : Nat → ClassId) (dI : Nat → Nat → Nat) (ad : Nat → Nat → Nat) (cA : Nat → ClassId) (s0 : State) (qo : Nat) (vs : List Value) (h : mj_H) (f : Nat → Int64) : Array Value → State → Prop := fun v U => v = vs.toArray ∧ va_P (dC, dI) mw_cl (mw_ws ad cA h) U.heap ∧ va_at (dC, dI) mw_cl (kOut cA qo f) U.heap ∧ mw_K dC dI cA U ∧ kEn s0 U
def kQc (dC : Nat → ClassId) (dI : Nat → Nat → Nat) (ad : Nat → Nat → Nat) (cA : Nat → ClassId) (qo : Nat) (h : mj_H) (post : Int32 → (Nat → Int64) → Prop) : Array Value → State → Outcome → State → Prop := va_Qi post (fun f t => va_P (dC, dI) mw_cl (mw_ws ad cA h) t.heap ∧ va_at (dC, dI) mw_cl (kOut cA qo f) t.heap ∧ mw_hv h) (kAo ad qo)
theorem kPc_blind {vs : List Value} {h : mj_H} {f : Nat → Int64} : FrameBlind (kPc dC dI ad cA s0 qo vs h f) := by
  intro a U g mk ⟨h1, h2, h3, h4, h5⟩
  exact ⟨h1, h2, h3, mw_K.moved (State.WarmedH.refl U) h4, h5.1, h5.2⟩
variable {p : Program} {e : Env} {s : State} {m : MethodId} {args : Array Value} {below : List Frame} {meth : Method} {c : Code} {H : Heap} {cc : ByteArray} {nL pc idx mj : Nat} {ls : Array Slot} {h h' : mj_H} {as : List mj_V} {f : Nat → Int64}
/-- the rest of a wrapper, from its call on: a value -/
theorem kw_r (k : kH l s0 ad aV) (hqo : ¬ mw_A ad qo) (F : kFr dC dI cA p s0 s m args c cc nL) (hr : meth.sig.returnType = some .int) (hlk : meth.locks = false) (hmj : mj < 366) (hsta : mw_sta mj = false) (hlink : Cond.methodLink "LinkedCoresLaw" idx (mw_y mj) ∈ mw_good) (hgi : mo_is mg (mw_mc mj) 2 = true) {v : Int32}
    (hR : mj_R mg 1322 (mt_code mj) (0, mj_args 0 (vR 2 0 :: as), [], h) = some (.inl (some (vI v), h'))) (hw : mj_wd (vR 2 0 :: as) ≤ mw_l mj) (hok : ∀ v ∈ as, mw_vd v) (hh : mw_hv h) (hlen : as.length = mw_na mj) (hls : ls.size = nL) (hP : va_P (dC, dI) mw_cl (mw_ws ad cA h) s.heap) (hO : va_at (dC, dI) mw_cl (kOut cA qo f) s.heap) (hE : kEn s0 s)
    (d0 : decode cc pc = .ok (.invokevirtual idx, 3)) (d1 : decode cc (pc + 3) = .ok (.i2l, 1)) (d2 : decode cc (pc + 4) = .ok (.lastore, 1)) {off : Int} {tgt : Nat} (d3 : decode cc (pc + 5) = .ok (.goto off, 3)) (ht : ((pc + 5 : Nat) : Int) + off = (tgt : Int)) (d4 : decode cc tgt = .ok (.iconst 0, 1)) (d5 : decode cc (tgt + 1) = .ok (.ireturn, 1)) :
    W p l e kRm s m args below meth c s.heap [] 0 0 (MQ below (kQc dC dI ad cA qo h' (fun r f1 => r = 0 ∧ f1 0 = v.toInt64)) args s 1 6 (kAo ad qo)) (F0 m pc ls ((as.map (mw_v ad)).reverse ++ .ref (ad 2 0) :: [.int 0, .ref qo])) := by
  have hM := km_ret (dC := dC) (dI := dI) (cA := cA) k hmj hR hw (fun v hv => by rcases List.mem_cons.mp hv with rfl | hv; exact (by decide +kernel : (2, 0) ∈ mw_val); exact hok v hv) hh
  obtain ⟨hx, hb, hml, hown, hts, hK, hW0⟩ := id F
  have hmax := mw_maxl mj (by omega)
  refine va_calli (A0 := kAo ad qo) (a := (Value.ref (ad 2 0) :: as.map (mw_v ad)).toArray) (kr_V (rest := [.int 0, .ref qo]) k F hmj hsta hlink (by decide +kernel) hgi hM hlen (Nat.le_of_ble_eq_true rfl) hls hP hE.2 d0 ⟨by decide, by show 8 + (mw_l mj + 11) + (32 * 1322 + 512) ≤ 42900; omega⟩ ⟨by decide, by decide⟩) va_S.rf (fun q _ z => Or.inl z) (fun q z => Or.inl z) (fun r u t H1 locs1 hth hvm hpost hB hz hk hS1 => ?_)
  have hpost : r = v := hpost
  subst hpost
  rw [← hth] at hk
  have hO1 : va_at (dC, dI) mw_cl (kOut cA qo f) H1 := hO.kept (by rw [← hth]; exact hk qo hO.lt hqo)
  have hP1 : va_P (dC, dI) mw_cl (mw_ws ad cA h') H1 := by rw [← hth]; exact hB.1
  refine lv_i2l hx hb d1 rfl ?_
  refine va_last (D := (dC, dI)) (tys := mw_tys cA) (a := qo) (cA := cA 3) (n := 1) (f := f) (i := 0) hx hb hK.1 (kW2_P hP1 hO1) (kW2_D k hqo h' f) hS1 200 3 (by rw [List.getElem?_append_right (by rw [kW2_len]; exact Nat.le_refl _), kW2_len]; rfl) rfl (fun z => by rcases z with z | z; exact absurd z (by decide); exact absurd z (by decide)) d2 (fun H2 locs2 hP2 hD2 hS2 => ?_)
  rw [kW2_set] at hP2
  obtain ⟨hP3, hO3⟩ := kW2_1 hP2
  refine lv_goto hx hb d3 ht ?_
  refine lv_iconst (v := 0) hx hb d4 rfl ?_
  refine W.widen (k := 1) (n := 6) (by decide) (by decide) ?_
  exact W.iret (v := 0) hx hb hr (fun t' ht' hW' => ⟨⟨0, vp_updL f (0 : Int32).toNatClampNeg r.toInt64, rfl, ⟨rfl, by simp [vp_updL]⟩, by rw [ht']; exact hP3, by rw [ht']; exact hO3, hB.2.2.2⟩, hS2.F ht'⟩) hS2.2.2 d5
/-- the rest of a wrapper that gives no value -/
theorem kw_v (k : kH l s0 ad aV) (hqo : ¬ mw_A ad qo) (F : kFr dC dI cA p s0 s m args c cc nL) (hr : meth.sig.returnType = some .int) (hlk : meth.locks = false) (hmj : mj < 366) (hsta : mw_sta mj = false) (hlink : Cond.methodLink "LinkedCoresLaw" idx (mw_y mj) ∈ mw_good) (hgi : mo_is mg (mw_mc mj) 2 = true)
    (hR : mj_R mg 1322 (mt_code mj) (0, mj_args 0 (vR 2 0 :: as), [], h) = some (.inl (none, h'))) (hw : mj_wd (vR 2 0 :: as) ≤ mw_l mj) (hok : ∀ v ∈ as, mw_vd v) (hh : mw_hv h) (hlen : as.length = mw_na mj) (hls : ls.size = nL) (hP : va_P (dC, dI) mw_cl (mw_ws ad cA h) s.heap) (hO : va_at (dC, dI) mw_cl (kOut cA qo f) s.heap) (hE : kEn s0 s)
    (d0 : decode cc pc = .ok (.invokevirtual idx, 3)) {off : Int} {tgt : Nat} (d3 : decode cc (pc + 3) = .ok (.goto off, 3)) (ht : ((pc + 3 : Nat) : Int) + off = (tgt : Int)) (d4 : decode cc tgt = .ok (.iconst 0, 1)) (d5 : decode cc (tgt + 1) = .ok (.ireturn, 1)) :
    W p l e kRm s m args below meth c s.heap [] 0 0 (MQ below (kQc dC dI ad cA qo h' (fun r _ => r = 0)) args s 1 6 (kAo ad qo)) (F0 m pc ls ((as.map (mw_v ad)).reverse ++ .ref (ad 2 0) :: [])) := by
  have hM := km_ret (dC := dC) (dI := dI) (cA := cA) k hmj hR hw (fun v hv => by rcases List.mem_cons.mp hv with rfl | hv; exact (by decide +kernel : (2, 0) ∈ mw_val); exact hok v hv) hh
  obtain ⟨hx, hb, hml, hown, hts, hK, hW0⟩ := id F
  have hmax := mw_maxl mj (by omega)
  refine va_callv (A0 := kAo ad qo) (a := (Value.ref (ad 2 0) :: as.map (mw_v ad)).toArray) (kr_V (rest := []) k F hmj hsta hlink (by decide +kernel) hgi hM hlen (Nat.le_of_ble_eq_true rfl) hls hP hE.2 d0 ⟨by decide, by show 8 + (mw_l mj + 11) + (32 * 1322 + 512) ≤ 42900; omega⟩ ⟨by decide, by decide⟩) va_S.rf (fun q _ z => Or.inl z) (fun q z => Or.inl z) (fun u t H1 locs1 hth hvm hpost hB hz hk hS1 => ?_)
  rw [← hth] at hk
  have hO1 : va_at (dC, dI) mw_cl (kOut cA qo f) H1 := hO.kept (by rw [← hth]; exact hk qo hO.lt hqo)
  have hP1 : va_P (dC, dI) mw_cl (mw_ws ad cA h') H1 := by rw [← hth]; exact hB.1
  refine lv_goto hx hb d3 ht ?_
  refine lv_iconst (v := 0) hx hb d4 rfl ?_
  refine W.widen (k := 1) (n := 6) (by decide) (by decide) ?_
  exact W.iret (v := 0) hx hb hr (fun t' ht' hW' => ⟨⟨0, f, rfl, rfl, by rw [ht']; exact hP1, by rw [ht']; exact hO1, hB.2.2.2⟩, hS1.F ht'⟩) hS1.2.2 d5
/-- what is known of castable and not castable at the law's start -/
def kCa (s0 : State) (a0 : Array Value) : Prop := ∀ i j, 0 < i → i < 6 → 0 < j → j < 6 → (i = j → (Cond.castable (mw_xn i) (mw_xn j)).before a0 s0 = true) ∧ (i ≠ j → (Cond.not (Cond.castable (mw_xn i) (mw_xn j))).before a0 s0 = true)
/-- the handlers of a wrapper: its exceptions' numbers and where they are caught -/
def kEs (en : Nat) (L : List (Nat × Nat × Nat)) : List (ExceptionTableEntry × String) := L.map (fun q => ((⟨0, en, q.2.1, q.2.2⟩ : ExceptionTableEntry), mw_xn q.1))
/-- the rest of a wrapper, from its call on: something is thrown; L: (exception, handler, its class' entry) -/
theorem kw_t (k : kH l s0 ad aV) (hqo : ¬ mw_A ad qo) (F : kFr dC dI cA p s0 s m args c cc nL) (hr : meth.sig.returnType = some .int) (hlk : meth.locks = false) (hmj : mj < 366) (hsta : mw_sta mj = false) (hlink : Cond.methodLink "LinkedCoresLaw" idx (mw_y mj) ∈ mw_good) (hgi : mo_is mg (mw_mc mj) 2 = true) {x0 : Nat}
    (hR : mj_R mg 1322 (mt_code mj) (0, mj_args 0 (vR 2 0 :: as), [], h) = some (.inr (x0, h'))) (hw : mj_wd (vR 2 0 :: as) ≤ mw_l mj) (hok : ∀ v ∈ as, mw_vd v) (hh : mw_hv h) (hlen : as.length = mw_na mj) (hls : ls.size = nL) (hP : va_P (dC, dI) mw_cl (mw_ws ad cA h) s.heap) (hO : va_at (dC, dI) mw_cl (kOut cA qo f) s.heap) (hE : kEn s0 s) {a0 : Array Value} (hca : kCa s0 a0)
    {rest : List Value} (hr8 : (rest.map fun v => v.category).sum ≤ 8) (d0 : decode cc pc = .ok (.invokevirtual idx, 3)) {en : Nat} {L : List (Nat × Nat × Nat)} (htab : c.exceptionTable.toList = (kEs en L).map (fun z => z.1)) (hen : pc < en) (hcl : ∀ q ∈ L, 0 < q.1 ∧ q.1 < 6 ∧ q.2.2 ≠ 0 ∧ Cond.classLink "LinkedCoresLaw" q.2.2 (mw_xn q.1) ∈ mw_good) (hnd : ∀ i j : Nat, i < j → ∀ a b : Nat × Nat × Nat, L[i]? = some a → L[j]? = some b → a.1 ≠ b.1) {n0 : Nat} {y : Nat × Nat × Nat} (hy : L[n0]? = some y) (hyx : y.1 = x0) {lv : List (Nat × Value)} (hlv : lv_has ls nL lv)
    (kk : ∀ (x : Nat) (H1 : Heap) (locs1 : List Loc), va_S (kAo ad qo) s.heap H1 locs1 → (∀ t' : State, t'.heap = H1 → s.WarmedH t'.vm → kQc dC dI ad cA qo h' (fun r _ => r = nI (n0 + 1)) args s (.returned (some (.int (nI (n0 + 1))))) t') → W p l e kRm s m args below meth c H1 locs1 1 6 (MQ below (kQc dC dI ad cA qo h' (fun r _ => r = nI (n0 + 1))) args s 1 6 (kAo ad qo)) (F0 m y.2.1 ls [.ref x])) :
    W p l e kRm s m args below meth c s.heap [] 0 0 (MQ below (kQc dC dI ad cA qo h' (fun r _ => r = nI (n0 + 1))) args s 1 6 (kAo ad qo)) (F0 m pc ls ((as.map (mw_v ad)).reverse ++ .ref (ad 2 0) :: rest)) := by
  have hM := km_thr (dC := dC) (dI := dI) (cA := cA) k hmj hR hw (fun v hv => by rcases List.mem_cons.mp hv with rfl | hv; exact (by decide +kernel : (2, 0) ∈ mw_val); exact hok v hv) hh
  obtain ⟨hx, hb, hml, hown, hts, hK, hW0⟩ := id F
  have hmax := mw_maxl mj (by omega)
  have hLy := hcl y (List.mem_of_getElem? hy)
  refine kr_T (cells := 0) (slots := 0) (locs := []) (es := kEs en L) (n0 := n0) (y := ((⟨0, en, y.2.1, y.2.2⟩ : ExceptionTableEntry), mw_xn y.1)) (a0 := a0) k F hmj hsta hlink (by decide +kernel) hgi hM hlen hr8 hls hP hE.2 d0 ⟨by decide, by show 8 + (mw_l mj + 11) + (32 * 1322 + 512) ≤ 42900; omega⟩ ⟨by decide, by decide⟩ htab ?_ ?_ ?_ ?_ ?_
  · intro z hz
    obtain ⟨q, hq, rfl⟩ := List.mem_map.mp hz
    obtain ⟨-, -, h3, h4⟩ := hcl q hq
    exact ⟨by simp [covers, hen], h3, hts _ h4⟩
  · unfold kEs
    rw [List.getElem?_map, hy]
    rfl
  · intro j z hj hz
    unfold kEs at hz
    rw [List.getElem?_map] at hz
    cases hq : L[j]? with
    | none => rw [hq] at hz; cases hz
    | some q =>
      rw [hq] at hz
      cases hz
      have hLq := hcl q (List.mem_of_getElem? hq)
      rw [← hyx]
      exact (hca y.1 q.1 hLy.1 hLy.2.1 hLq.1 hLq.2.1).2 (fun z => hnd j n0 hj q y hq hy z.symm)
  · rw [← hyx]
    exact (hca y.1 y.1 hLy.1 hLy.2.1 hLy.1 hLy.2.1).1 rfl
  · intro x H1 L1 hP1 hh1 hz hk hL1
    have hS1 : va_S (kAo ad qo) s.heap H1 ([] ++ L1) := ⟨hz, fun q hq hA => hk q hq (fun z => hA (Or.inl z)), fun z hz' => by rw [List.nil_append] at hz'; exact Or.inl (hL1 z hz')⟩
    have hO1 : va_at (dC, dI) mw_cl (kOut cA qo f) H1 := hO.kept (hk qo hO.lt hqo)
    exact kk x H1 _ hS1 (fun t' ht' hW' => ⟨⟨nI (n0 + 1), f, rfl, rfl, by rw [ht']; exact hP1, by rw [ht']; exact hO1, hh1⟩, hS1.F ht'⟩)
end
