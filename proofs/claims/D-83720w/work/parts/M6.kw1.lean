/-! THE LAW over the real machine: its wrappers, one by one (printed by tools/gen_kw1.py) -/
theorem knd_of {L : List (Nat × Nat × Nat)} (h : L.Pairwise (fun a b => a.1 ≠ b.1)) : ∀ i j : Nat, i < j → ∀ a b : Nat × Nat × Nat, L[i]? = some a → L[j]? = some b → a.1 ≠ b.1 := by
  intro i j hij a b ha hb
  obtain ⟨h1, rfl⟩ := List.getElem?_eq_some_iff.mp ha
  obtain ⟨h2, rfl⟩ := List.getElem?_eq_some_iff.mp hb
  exact List.pairwise_iff_getElem.mp h i j h1 h2 hij
theorem klk_1 : Cond.classLink "LinkedCoresLaw" 13 (mw_xn 1) ∈ mw_good := mw_good_of (mw_tm7 (List.mem_of_getElem? (i := 109) rfl)) rfl
theorem klk_2 : Cond.classLink "LinkedCoresLaw" 35 (mw_xn 2) ∈ mw_good := mw_good_of (mw_tm7 (List.mem_of_getElem? (i := 198) rfl)) rfl
theorem klk_3 : Cond.classLink "LinkedCoresLaw" 28 (mw_xn 3) ∈ mw_good := mw_good_of (mw_tm7 (List.mem_of_getElem? (i := 168) rfl)) rfl
theorem klk_4 : Cond.classLink "LinkedCoresLaw" 30 (mw_xn 4) ∈ mw_good := mw_good_of (mw_tm7 (List.mem_of_getElem? (i := 169) rfl)) rfl
theorem klk_5 : Cond.classLink "LinkedCoresLaw" 15 (mw_xn 5) ∈ mw_good := mw_good_of (mw_tm7 (List.mem_of_getElem? (i := 110) rfl)) rfl
theorem kd_put_0 : decode method_3_code 0 = .ok (.aload_n 2, 1) := by decide +kernel
theorem kd_put_1 : decode method_3_code 1 = .ok (.iconst 0, 1) := by decide +kernel
theorem kd_put_2 : decode method_3_code 2 = .ok (.aload_n 0, 1) := by decide +kernel
theorem kd_put_3 : decode method_3_code 3 = .ok (.iload_n 1, 1) := by decide +kernel
theorem kd_put_4 : decode method_3_code 4 = .ok (.invokevirtual 7, 3) := by decide +kernel
theorem kd_put_7 : decode method_3_code 7 = .ok (.i2l, 1) := by decide +kernel
theorem kd_put_8 : decode method_3_code 8 = .ok (.lastore, 1) := by decide +kernel
theorem kd_put_9 : decode method_3_code 9 = .ok (.goto 9, 3) := by decide +kernel
theorem kd_put_12 : decode method_3_code 12 = .ok (.astore_n 3, 1) := by decide +kernel
theorem kd_put_13 : decode method_3_code 13 = .ok (.iconst 1, 1) := by decide +kernel
theorem kd_put_14 : decode method_3_code 14 = .ok (.ireturn, 1) := by decide +kernel
theorem kd_put_15 : decode method_3_code 15 = .ok (.astore_n 3, 1) := by decide +kernel
theorem kd_put_16 : decode method_3_code 16 = .ok (.iconst 2, 1) := by decide +kernel
theorem kd_put_17 : decode method_3_code 17 = .ok (.ireturn, 1) := by decide +kernel
theorem kd_put_18 : decode method_3_code 18 = .ok (.iconst 0, 1) := by decide +kernel
theorem kd_put_19 : decode method_3_code 19 = .ok (.ireturn, 1) := by decide +kernel
def ky_put : MethodName := ⟨"LinkedCoresLaw", "put", "(LLinkedCores;I[J)I"⟩
def khs_put : List (Nat × Nat × Nat × Nat) := [(0, 9, 12, 13), (0, 9, 15, 15)]
theorem kca_put : Cond.methodLink "LinkedCoresLaw" 7 (mw_y 9) ∈ mw_good := mw_good_of (mw_tm7 (List.mem_of_getElem? (i := 111) rfl)) rfl
theorem kcl_put : ∀ q ∈ ([(1, 12, 13), (5, 15, 15)] : List (Nat × Nat × Nat)), 0 < q.1 ∧ q.1 < 6 ∧ q.2.2 ≠ 0 ∧ Cond.classLink "LinkedCoresLaw" q.2.2 (mw_xn q.1) ∈ mw_good := List.forall_mem_cons.mpr ⟨⟨by decide, by decide, by decide, klk_1⟩, List.forall_mem_cons.mpr ⟨⟨by decide, by decide, by decide, klk_5⟩, fun _ h => absurd h List.not_mem_nil⟩⟩
theorem kt_put_r {l : Launch} {s0 : State} {dC : Nat → ClassId} {dI : Nat → Nat → Nat} {ad : Nat → Nat → Nat} {aV : Nat → Nat} {cA : Nat → ClassId} {qo : Nat} (k : kH l s0 ad aV) (hqo : ¬ mw_A ad qo) {u0 : Int32} {v : Int32} {h h' : mj_H} {f : Nat → Int64} (hh : mw_hv h) (hR : mj_R mg 1322 mq_9 (0, [(0, vR 2 0), (1, vI u0)], [], h) = some (.inl (some (vI v), h'))) : Met l ky_put (kWs ky_put method_3_code 4 khs_put) kRm (kPc dC dI ad cA s0 qo [.ref (ad 2 0), .int u0, .ref qo] h f) (kQc dC dI ad cA qo h' (fun r f1 => r = 0 ∧ f1 0 = v.toInt64)) 1 6 (kAo ad qo) := by
  refine kMet (cc := method_3_code) (maxL := 4) (ret := some .int) (hs := khs_put) (by decide) List.mem_cons_self ?_
  intro p e s m args below meth c s₁ B hml htab hv
  obtain ⟨rfl, hP, hO, hK, hE⟩ := hv
  have hts := atoms_spec (ws := kWs ky_put method_3_code 4 khs_put) B.pre
  have hown : s.vm.findClass "LinkedCoresLaw" = some m.cls := findClass_of_methodNamed B.named
  have hlk := B.notSynchronized
  have hx := B.exec
  have hb := B.bytes
  have F : kFr dC dI cA p s0 s m _ c method_3_code 4 := ⟨hx, hb, hml, hown, fun w hw => hts w (List.mem_cons_of_mem _ hw), hK, hE.1⟩
  have hl := lv_entry ([.ref (ad 2 0), .int u0, .ref qo]) (n := 4) (Nat.le_of_ble_eq_true rfl)
  rw [lg_entry_eq]
  generalize (lg_sl ([.ref (ad 2 0), .int u0, .ref qo]) ++ List.replicate (4 - (lg_sl ([.ref (ad 2 0), .int u0, .ref qo])).length) Slot.unset).toArray = ls at hl ⊢
  have hl : lv_has ls 4 [(0, .ref (ad 2 0)), (1, .int u0), (2, .ref qo)] := hl
  refine lv_aload_n (k := 2) hx hb kd_put_0 rfl (lv_at hl 2 rfl) ?_
  refine lv_iconst (v := 0) hx hb kd_put_1 rfl ?_
  refine lv_aload_n (k := 0) hx hb kd_put_2 rfl (lv_at hl 0 rfl) ?_
  refine lv_iload_n (k := 1) hx hb kd_put_3 rfl (lv_at hl 1 rfl) ?_
  exact kw_r (as := [vI u0]) (mj := 9) (pc := 4) (tgt := 18) k hqo F B.returns hlk (by decide) rfl kca_put rfl hR (Nat.le_of_ble_eq_true rfl) (fun v hv => by simp at hv; subst hv; trivial) hh rfl hl.1 hP hO hE kd_put_4 kd_put_7 kd_put_8 kd_put_9 rfl kd_put_18 kd_put_19
theorem kt_put_t {l : Launch} {s0 : State} {dC : Nat → ClassId} {dI : Nat → Nat → Nat} {ad : Nat → Nat → Nat} {aV : Nat → Nat} {cA : Nat → ClassId} {qo : Nat} (k : kH l s0 ad aV) (hqo : ¬ mw_A ad qo) {a0 : Array Value} (hca : kCa s0 a0) {u0 : Int32} {x0 n0 : Nat} {h h' : mj_H} {f : Nat → Int64} (hh : mw_hv h) (hR : mj_R mg 1322 mq_9 (0, [(0, vR 2 0), (1, vI u0)], [], h) = some (.inr (x0, h'))) (hn : ([1, 5] : List Nat)[n0]? = some x0) : Met l ky_put (kWs ky_put method_3_code 4 khs_put) kRm (kPc dC dI ad cA s0 qo [.ref (ad 2 0), .int u0, .ref qo] h f) (kQc dC dI ad cA qo h' (fun r _ => r = nI (n0 + 1))) 1 6 (kAo ad qo) := by
  refine kMet (cc := method_3_code) (maxL := 4) (ret := some .int) (hs := khs_put) (by decide) List.mem_cons_self ?_
  intro p e s m args below meth c s₁ B hml htab hv
  obtain ⟨rfl, hP, hO, hK, hE⟩ := hv
  have hts := atoms_spec (ws := kWs ky_put method_3_code 4 khs_put) B.pre
  have hown : s.vm.findClass "LinkedCoresLaw" = some m.cls := findClass_of_methodNamed B.named
  have hlk := B.notSynchronized
  have hx := B.exec
  have hb := B.bytes
  have F : kFr dC dI cA p s0 s m _ c method_3_code 4 := ⟨hx, hb, hml, hown, fun w hw => hts w (List.mem_cons_of_mem _ hw), hK, hE.1⟩
  have hl := lv_entry ([.ref (ad 2 0), .int u0, .ref qo]) (n := 4) (Nat.le_of_ble_eq_true rfl)
  rw [lg_entry_eq]
  generalize (lg_sl ([.ref (ad 2 0), .int u0, .ref qo]) ++ List.replicate (4 - (lg_sl ([.ref (ad 2 0), .int u0, .ref qo])).length) Slot.unset).toArray = ls at hl ⊢
  have hl : lv_has ls 4 [(0, .ref (ad 2 0)), (1, .int u0), (2, .ref qo)] := hl
  refine lv_aload_n (k := 2) hx hb kd_put_0 rfl (lv_at hl 2 rfl) ?_
  refine lv_iconst (v := 0) hx hb kd_put_1 rfl ?_
  refine lv_aload_n (k := 0) hx hb kd_put_2 rfl (lv_at hl 0 rfl) ?_
  refine lv_iload_n (k := 1) hx hb kd_put_3 rfl (lv_at hl 1 rfl) ?_
  have hn2 : n0 < 2 := (List.getElem?_eq_some_iff.mp hn).1
  have hn3 : n0 = 0 ∨ n0 = 1 := by omega
  rcases hn3 with rfl | rfl
  · cases hn
    refine kw_t (as := [vI u0]) (mj := 9) (pc := 4) (en := 9) (L := [(1, 12, 13), (5, 15, 15)]) (n0 := 0) (y := (1, 12, 13)) (rest := [.int 0, .ref qo]) k hqo F B.returns hlk (by decide) rfl kca_put rfl hR (Nat.le_of_ble_eq_true rfl) (fun v hv => by simp at hv; subst hv; trivial) hh rfl hl.1 hP hO hE hca (Nat.le_of_ble_eq_true rfl) kd_put_4 (by rw [htab]; rfl) (by decide) kcl_put (knd_of (by decide)) rfl rfl hl (fun x9 H1 locs1 hS1 hq => ?_)
    refine lv_astore_n (k := 3) (nL := 4) hx hb kd_put_12 rfl hl (by decide) rfl (fun ls1 hl1 => ?_)
    refine lv_iconst (v := nI (0 + 1)) hx hb kd_put_13 rfl ?_
    exact W.iret (v := nI (0 + 1)) hx hb B.returns hq hS1.2.2 kd_put_14 hlk
  · cases hn
    refine kw_t (as := [vI u0]) (mj := 9) (pc := 4) (en := 9) (L := [(1, 12, 13), (5, 15, 15)]) (n0 := 1) (y := (5, 15, 15)) (rest := [.int 0, .ref qo]) k hqo F B.returns hlk (by decide) rfl kca_put rfl hR (Nat.le_of_ble_eq_true rfl) (fun v hv => by simp at hv; subst hv; trivial) hh rfl hl.1 hP hO hE hca (Nat.le_of_ble_eq_true rfl) kd_put_4 (by rw [htab]; rfl) (by decide) kcl_put (knd_of (by decide)) rfl rfl hl (fun x9 H1 locs1 hS1 hq => ?_)
    refine lv_astore_n (k := 3) (nL := 4) hx hb kd_put_15 rfl hl (by decide) rfl (fun ls1 hl1 => ?_)
    refine lv_iconst (v := nI (1 + 1)) hx hb kd_put_16 rfl ?_
    exact W.iret (v := nI (1 + 1)) hx hb B.returns hq hS1.2.2 kd_put_17 hlk
theorem kd_end_0 : decode method_4_code 0 = .ok (.aload_n 0, 1) := by decide +kernel
theorem kd_end_1 : decode method_4_code 1 = .ok (.iload_n 1, 1) := by decide +kernel
theorem kd_end_2 : decode method_4_code 2 = .ok (.invokevirtual 17, 3) := by decide +kernel
theorem kd_end_5 : decode method_4_code 5 = .ok (.goto 6, 3) := by decide +kernel
theorem kd_end_8 : decode method_4_code 8 = .ok (.astore_n 2, 1) := by decide +kernel
theorem kd_end_9 : decode method_4_code 9 = .ok (.iconst 1, 1) := by decide +kernel
theorem kd_end_10 : decode method_4_code 10 = .ok (.ireturn, 1) := by decide +kernel
theorem kd_end_11 : decode method_4_code 11 = .ok (.iconst 0, 1) := by decide +kernel
theorem kd_end_12 : decode method_4_code 12 = .ok (.ireturn, 1) := by decide +kernel
def ky_end : MethodName := ⟨"LinkedCoresLaw", "end", "(LLinkedCores;I)I"⟩
def khs_end : List (Nat × Nat × Nat × Nat) := [(0, 5, 8, 13)]
theorem kca_end : Cond.methodLink "LinkedCoresLaw" 17 (mw_y 10) ∈ mw_good := mw_good_of (mw_tm7 (List.mem_of_getElem? (i := 153) rfl)) rfl
theorem kcl_end : ∀ q ∈ ([(1, 8, 13)] : List (Nat × Nat × Nat)), 0 < q.1 ∧ q.1 < 6 ∧ q.2.2 ≠ 0 ∧ Cond.classLink "LinkedCoresLaw" q.2.2 (mw_xn q.1) ∈ mw_good := List.forall_mem_cons.mpr ⟨⟨by decide, by decide, by decide, klk_1⟩, fun _ h => absurd h List.not_mem_nil⟩
theorem kt_end_r {l : Launch} {s0 : State} {dC : Nat → ClassId} {dI : Nat → Nat → Nat} {ad : Nat → Nat → Nat} {aV : Nat → Nat} {cA : Nat → ClassId} {qo : Nat} (k : kH l s0 ad aV) (hqo : ¬ mw_A ad qo) {u0 : Int32} {h h' : mj_H} {f : Nat → Int64} (hh : mw_hv h) (hR : mj_R mg 1322 mq_10 (0, [(0, vR 2 0), (1, vI u0)], [], h) = some (.inl (none, h'))) : Met l ky_end (kWs ky_end method_4_code 3 khs_end) kRm (kPc dC dI ad cA s0 qo [.ref (ad 2 0), .int u0] h f) (kQc dC dI ad cA qo h' (fun r _ => r = 0)) 1 6 (kAo ad qo) := by
  refine kMet (cc := method_4_code) (maxL := 3) (ret := some .int) (hs := khs_end) (by decide) List.mem_cons_self ?_
  intro p e s m args below meth c s₁ B hml htab hv
  obtain ⟨rfl, hP, hO, hK, hE⟩ := hv
  have hts := atoms_spec (ws := kWs ky_end method_4_code 3 khs_end) B.pre
  have hown : s.vm.findClass "LinkedCoresLaw" = some m.cls := findClass_of_methodNamed B.named
  have hlk := B.notSynchronized
  have hx := B.exec
  have hb := B.bytes
  have F : kFr dC dI cA p s0 s m _ c method_4_code 3 := ⟨hx, hb, hml, hown, fun w hw => hts w (List.mem_cons_of_mem _ hw), hK, hE.1⟩
  have hl := lv_entry ([.ref (ad 2 0), .int u0]) (n := 3) (Nat.le_of_ble_eq_true rfl)
  rw [lg_entry_eq]
  generalize (lg_sl ([.ref (ad 2 0), .int u0]) ++ List.replicate (3 - (lg_sl ([.ref (ad 2 0), .int u0])).length) Slot.unset).toArray = ls at hl ⊢
  have hl : lv_has ls 3 [(0, .ref (ad 2 0)), (1, .int u0)] := hl
  refine lv_aload_n (k := 0) hx hb kd_end_0 rfl (lv_at hl 0 rfl) ?_
  refine lv_iload_n (k := 1) hx hb kd_end_1 rfl (lv_at hl 1 rfl) ?_
  exact kw_v (as := [vI u0]) (mj := 10) (pc := 2) (tgt := 11) k hqo F B.returns hlk (by decide) rfl kca_end rfl hR (Nat.le_of_ble_eq_true rfl) (fun v hv => by simp at hv; subst hv; trivial) hh rfl hl.1 hP hO hE kd_end_2 kd_end_5 rfl kd_end_11 kd_end_12
theorem kt_end_t {l : Launch} {s0 : State} {dC : Nat → ClassId} {dI : Nat → Nat → Nat} {ad : Nat → Nat → Nat} {aV : Nat → Nat} {cA : Nat → ClassId} {qo : Nat} (k : kH l s0 ad aV) (hqo : ¬ mw_A ad qo) {a0 : Array Value} (hca : kCa s0 a0) {u0 : Int32} {x0 n0 : Nat} {h h' : mj_H} {f : Nat → Int64} (hh : mw_hv h) (hR : mj_R mg 1322 mq_10 (0, [(0, vR 2 0), (1, vI u0)], [], h) = some (.inr (x0, h'))) (hn : ([1] : List Nat)[n0]? = some x0) : Met l ky_end (kWs ky_end method_4_code 3 khs_end) kRm (kPc dC dI ad cA s0 qo [.ref (ad 2 0), .int u0] h f) (kQc dC dI ad cA qo h' (fun r _ => r = nI (n0 + 1))) 1 6 (kAo ad qo) := by
  refine kMet (cc := method_4_code) (maxL := 3) (ret := some .int) (hs := khs_end) (by decide) List.mem_cons_self ?_
  intro p e s m args below meth c s₁ B hml htab hv
  obtain ⟨rfl, hP, hO, hK, hE⟩ := hv
  have hts := atoms_spec (ws := kWs ky_end method_4_code 3 khs_end) B.pre
  have hown : s.vm.findClass "LinkedCoresLaw" = some m.cls := findClass_of_methodNamed B.named
  have hlk := B.notSynchronized
  have hx := B.exec
  have hb := B.bytes
  have F : kFr dC dI cA p s0 s m _ c method_4_code 3 := ⟨hx, hb, hml, hown, fun w hw => hts w (List.mem_cons_of_mem _ hw), hK, hE.1⟩
  have hl := lv_entry ([.ref (ad 2 0), .int u0]) (n := 3) (Nat.le_of_ble_eq_true rfl)
  rw [lg_entry_eq]
  generalize (lg_sl ([.ref (ad 2 0), .int u0]) ++ List.replicate (3 - (lg_sl ([.ref (ad 2 0), .int u0])).length) Slot.unset).toArray = ls at hl ⊢
  have hl : lv_has ls 3 [(0, .ref (ad 2 0)), (1, .int u0)] := hl
  refine lv_aload_n (k := 0) hx hb kd_end_0 rfl (lv_at hl 0 rfl) ?_
  refine lv_iload_n (k := 1) hx hb kd_end_1 rfl (lv_at hl 1 rfl) ?_
  have hn2 : n0 < 1 := (List.getElem?_eq_some_iff.mp hn).1
  have hn3 : n0 = 0 := by omega
  subst hn3
  cases hn
  refine kw_t (as := [vI u0]) (mj := 10) (pc := 2) (en := 5) (L := [(1, 8, 13)]) (n0 := 0) (y := (1, 8, 13)) (rest := []) k hqo F B.returns hlk (by decide) rfl kca_end rfl hR (Nat.le_of_ble_eq_true rfl) (fun v hv => by simp at hv; subst hv; trivial) hh rfl hl.1 hP hO hE hca (Nat.le_of_ble_eq_true rfl) kd_end_2 (by rw [htab]; rfl) (by decide) kcl_end (knd_of (by decide)) rfl rfl hl (fun x9 H1 locs1 hS1 hq => ?_)
  refine lv_astore_n (k := 2) (nL := 3) hx hb kd_end_8 rfl hl (by decide) rfl (fun ls1 hl1 => ?_)
  refine lv_iconst (v := nI (0 + 1)) hx hb kd_end_9 rfl ?_
  exact W.iret (v := nI (0 + 1)) hx hb B.returns hq hS1.2.2 kd_end_10 hlk
theorem kd_fault_0 : decode method_5_code 0 = .ok (.aload_n 2, 1) := by decide +kernel
theorem kd_fault_1 : decode method_5_code 1 = .ok (.iconst 0, 1) := by decide +kernel
theorem kd_fault_2 : decode method_5_code 2 = .ok (.aload_n 0, 1) := by decide +kernel
theorem kd_fault_3 : decode method_5_code 3 = .ok (.iload_n 1, 1) := by decide +kernel
theorem kd_fault_4 : decode method_5_code 4 = .ok (.invokevirtual 21, 3) := by decide +kernel
theorem kd_fault_7 : decode method_5_code 7 = .ok (.i2l, 1) := by decide +kernel
theorem kd_fault_8 : decode method_5_code 8 = .ok (.lastore, 1) := by decide +kernel
theorem kd_fault_9 : decode method_5_code 9 = .ok (.goto 6, 3) := by decide +kernel
theorem kd_fault_12 : decode method_5_code 12 = .ok (.astore_n 3, 1) := by decide +kernel
theorem kd_fault_13 : decode method_5_code 13 = .ok (.iconst 1, 1) := by decide +kernel
theorem kd_fault_14 : decode method_5_code 14 = .ok (.ireturn, 1) := by decide +kernel
theorem kd_fault_15 : decode method_5_code 15 = .ok (.iconst 0, 1) := by decide +kernel
theorem kd_fault_16 : decode method_5_code 16 = .ok (.ireturn, 1) := by decide +kernel
def ky_fault : MethodName := ⟨"LinkedCoresLaw", "fault", "(LLinkedCores;I[J)I"⟩
def khs_fault : List (Nat × Nat × Nat × Nat) := [(0, 9, 12, 13)]
theorem kca_fault : Cond.methodLink "LinkedCoresLaw" 21 (mw_y 14) ∈ mw_good := mw_good_of (mw_tm7 (List.mem_of_getElem? (i := 160) rfl)) rfl
theorem kcl_fault : ∀ q ∈ ([(1, 12, 13)] : List (Nat × Nat × Nat)), 0 < q.1 ∧ q.1 < 6 ∧ q.2.2 ≠ 0 ∧ Cond.classLink "LinkedCoresLaw" q.2.2 (mw_xn q.1) ∈ mw_good := List.forall_mem_cons.mpr ⟨⟨by decide, by decide, by decide, klk_1⟩, fun _ h => absurd h List.not_mem_nil⟩
theorem kt_fault_r {l : Launch} {s0 : State} {dC : Nat → ClassId} {dI : Nat → Nat → Nat} {ad : Nat → Nat → Nat} {aV : Nat → Nat} {cA : Nat → ClassId} {qo : Nat} (k : kH l s0 ad aV) (hqo : ¬ mw_A ad qo) {u0 : Int32} {v : Int32} {h h' : mj_H} {f : Nat → Int64} (hh : mw_hv h) (hR : mj_R mg 1322 mq_14 (0, [(0, vR 2 0), (1, vI u0)], [], h) = some (.inl (some (vI v), h'))) : Met l ky_fault (kWs ky_fault method_5_code 4 khs_fault) kRm (kPc dC dI ad cA s0 qo [.ref (ad 2 0), .int u0, .ref qo] h f) (kQc dC dI ad cA qo h' (fun r f1 => r = 0 ∧ f1 0 = v.toInt64)) 1 6 (kAo ad qo) := by
  refine kMet (cc := method_5_code) (maxL := 4) (ret := some .int) (hs := khs_fault) (by decide) List.mem_cons_self ?_
  intro p e s m args below meth c s₁ B hml htab hv
  obtain ⟨rfl, hP, hO, hK, hE⟩ := hv
  have hts := atoms_spec (ws := kWs ky_fault method_5_code 4 khs_fault) B.pre
  have hown : s.vm.findClass "LinkedCoresLaw" = some m.cls := findClass_of_methodNamed B.named
  have hlk := B.notSynchronized
  have hx := B.exec
  have hb := B.bytes
  have F : kFr dC dI cA p s0 s m _ c method_5_code 4 := ⟨hx, hb, hml, hown, fun w hw => hts w (List.mem_cons_of_mem _ hw), hK, hE.1⟩
  have hl := lv_entry ([.ref (ad 2 0), .int u0, .ref qo]) (n := 4) (Nat.le_of_ble_eq_true rfl)
  rw [lg_entry_eq]
  generalize (lg_sl ([.ref (ad 2 0), .int u0, .ref qo]) ++ List.replicate (4 - (lg_sl ([.ref (ad 2 0), .int u0, .ref qo])).length) Slot.unset).toArray = ls at hl ⊢
  have hl : lv_has ls 4 [(0, .ref (ad 2 0)), (1, .int u0), (2, .ref qo)] := hl
  refine lv_aload_n (k := 2) hx hb kd_fault_0 rfl (lv_at hl 2 rfl) ?_
  refine lv_iconst (v := 0) hx hb kd_fault_1 rfl ?_
  refine lv_aload_n (k := 0) hx hb kd_fault_2 rfl (lv_at hl 0 rfl) ?_
  refine lv_iload_n (k := 1) hx hb kd_fault_3 rfl (lv_at hl 1 rfl) ?_
  exact kw_r (as := [vI u0]) (mj := 14) (pc := 4) (tgt := 15) k hqo F B.returns hlk (by decide) rfl kca_fault rfl hR (Nat.le_of_ble_eq_true rfl) (fun v hv => by simp at hv; subst hv; trivial) hh rfl hl.1 hP hO hE kd_fault_4 kd_fault_7 kd_fault_8 kd_fault_9 rfl kd_fault_15 kd_fault_16
theorem kt_fault_t {l : Launch} {s0 : State} {dC : Nat → ClassId} {dI : Nat → Nat → Nat} {ad : Nat → Nat → Nat} {aV : Nat → Nat} {cA : Nat → ClassId} {qo : Nat} (k : kH l s0 ad aV) (hqo : ¬ mw_A ad qo) {a0 : Array Value} (hca : kCa s0 a0) {u0 : Int32} {x0 n0 : Nat} {h h' : mj_H} {f : Nat → Int64} (hh : mw_hv h) (hR : mj_R mg 1322 mq_14 (0, [(0, vR 2 0), (1, vI u0)], [], h) = some (.inr (x0, h'))) (hn : ([1] : List Nat)[n0]? = some x0) : Met l ky_fault (kWs ky_fault method_5_code 4 khs_fault) kRm (kPc dC dI ad cA s0 qo [.ref (ad 2 0), .int u0, .ref qo] h f) (kQc dC dI ad cA qo h' (fun r _ => r = nI (n0 + 1))) 1 6 (kAo ad qo) := by
  refine kMet (cc := method_5_code) (maxL := 4) (ret := some .int) (hs := khs_fault) (by decide) List.mem_cons_self ?_
  intro p e s m args below meth c s₁ B hml htab hv
  obtain ⟨rfl, hP, hO, hK, hE⟩ := hv
  have hts := atoms_spec (ws := kWs ky_fault method_5_code 4 khs_fault) B.pre
  have hown : s.vm.findClass "LinkedCoresLaw" = some m.cls := findClass_of_methodNamed B.named
  have hlk := B.notSynchronized
  have hx := B.exec
  have hb := B.bytes
  have F : kFr dC dI cA p s0 s m _ c method_5_code 4 := ⟨hx, hb, hml, hown, fun w hw => hts w (List.mem_cons_of_mem _ hw), hK, hE.1⟩
  have hl := lv_entry ([.ref (ad 2 0), .int u0, .ref qo]) (n := 4) (Nat.le_of_ble_eq_true rfl)
  rw [lg_entry_eq]
  generalize (lg_sl ([.ref (ad 2 0), .int u0, .ref qo]) ++ List.replicate (4 - (lg_sl ([.ref (ad 2 0), .int u0, .ref qo])).length) Slot.unset).toArray = ls at hl ⊢
  have hl : lv_has ls 4 [(0, .ref (ad 2 0)), (1, .int u0), (2, .ref qo)] := hl
  refine lv_aload_n (k := 2) hx hb kd_fault_0 rfl (lv_at hl 2 rfl) ?_
  refine lv_iconst (v := 0) hx hb kd_fault_1 rfl ?_
  refine lv_aload_n (k := 0) hx hb kd_fault_2 rfl (lv_at hl 0 rfl) ?_
  refine lv_iload_n (k := 1) hx hb kd_fault_3 rfl (lv_at hl 1 rfl) ?_
  have hn2 : n0 < 1 := (List.getElem?_eq_some_iff.mp hn).1
  have hn3 : n0 = 0 := by omega
  subst hn3
  cases hn
  refine kw_t (as := [vI u0]) (mj := 14) (pc := 4) (en := 9) (L := [(1, 12, 13)]) (n0 := 0) (y := (1, 12, 13)) (rest := [.int 0, .ref qo]) k hqo F B.returns hlk (by decide) rfl kca_fault rfl hR (Nat.le_of_ble_eq_true rfl) (fun v hv => by simp at hv; subst hv; trivial) hh rfl hl.1 hP hO hE hca (Nat.le_of_ble_eq_true rfl) kd_fault_4 (by rw [htab]; rfl) (by decide) kcl_fault (knd_of (by decide)) rfl rfl hl (fun x9 H1 locs1 hS1 hq => ?_)
  refine lv_astore_n (k := 3) (nL := 4) hx hb kd_fault_12 rfl hl (by decide) rfl (fun ls1 hl1 => ?_)
  refine lv_iconst (v := nI (0 + 1)) hx hb kd_fault_13 rfl ?_
  exact W.iret (v := nI (0 + 1)) hx hb B.returns hq hS1.2.2 kd_fault_14 hlk
theorem kd_processor_0 : decode method_6_code 0 = .ok (.aload_n 3, 1) := by decide +kernel
theorem kd_processor_1 : decode method_6_code 1 = .ok (.iconst 0, 1) := by decide +kernel
theorem kd_processor_2 : decode method_6_code 2 = .ok (.aload_n 0, 1) := by decide +kernel
theorem kd_processor_3 : decode method_6_code 3 = .ok (.iload_n 1, 1) := by decide +kernel
theorem kd_processor_4 : decode method_6_code 4 = .ok (.iload_n 2, 1) := by decide +kernel
theorem kd_processor_5 : decode method_6_code 5 = .ok (.invokevirtual 24, 3) := by decide +kernel
theorem kd_processor_8 : decode method_6_code 8 = .ok (.i2l, 1) := by decide +kernel
theorem kd_processor_9 : decode method_6_code 9 = .ok (.lastore, 1) := by decide +kernel
theorem kd_processor_10 : decode method_6_code 10 = .ok (.goto 15, 3) := by decide +kernel
theorem kd_processor_13 : decode method_6_code 13 = .ok (.astore 4, 2) := by decide +kernel
theorem kd_processor_15 : decode method_6_code 15 = .ok (.iconst 1, 1) := by decide +kernel
theorem kd_processor_16 : decode method_6_code 16 = .ok (.ireturn, 1) := by decide +kernel
theorem kd_processor_17 : decode method_6_code 17 = .ok (.astore 4, 2) := by decide +kernel
theorem kd_processor_19 : decode method_6_code 19 = .ok (.iconst 2, 1) := by decide +kernel
theorem kd_processor_20 : decode method_6_code 20 = .ok (.ireturn, 1) := by decide +kernel
theorem kd_processor_21 : decode method_6_code 21 = .ok (.astore 4, 2) := by decide +kernel
theorem kd_processor_23 : decode method_6_code 23 = .ok (.iconst 3, 1) := by decide +kernel
theorem kd_processor_24 : decode method_6_code 24 = .ok (.ireturn, 1) := by decide +kernel
theorem kd_processor_25 : decode method_6_code 25 = .ok (.iconst 0, 1) := by decide +kernel
theorem kd_processor_26 : decode method_6_code 26 = .ok (.ireturn, 1) := by decide +kernel
def ky_processor : MethodName := ⟨"LinkedCoresLaw", "processor", "(LLinkedCores;II[J)I"⟩
def khs_processor : List (Nat × Nat × Nat × Nat) := [(0, 10, 13, 28), (0, 10, 17, 30), (0, 10, 21, 13)]
theorem kca_processor : Cond.methodLink "LinkedCoresLaw" 24 (mw_y 15) ∈ mw_good := mw_good_of (mw_tm7 (List.mem_of_getElem? (i := 170) rfl)) rfl
theorem kcl_processor : ∀ q ∈ ([(3, 13, 28), (4, 17, 30), (1, 21, 13)] : List (Nat × Nat × Nat)), 0 < q.1 ∧ q.1 < 6 ∧ q.2.2 ≠ 0 ∧ Cond.classLink "LinkedCoresLaw" q.2.2 (mw_xn q.1) ∈ mw_good := List.forall_mem_cons.mpr ⟨⟨by decide, by decide, by decide, klk_3⟩, List.forall_mem_cons.mpr ⟨⟨by decide, by decide, by decide, klk_4⟩, List.forall_mem_cons.mpr ⟨⟨by decide, by decide, by decide, klk_1⟩, fun _ h => absurd h List.not_mem_nil⟩⟩⟩
theorem kt_processor_r {l : Launch} {s0 : State} {dC : Nat → ClassId} {dI : Nat → Nat → Nat} {ad : Nat → Nat → Nat} {aV : Nat → Nat} {cA : Nat → ClassId} {qo : Nat} (k : kH l s0 ad aV) (hqo : ¬ mw_A ad qo) {u0 : Int32} {u1 : Int32} {v : Int32} {h h' : mj_H} {f : Nat → Int64} (hh : mw_hv h) (hR : mj_R mg 1322 mq_15 (0, [(0, vR 2 0), (1, vI u0), (2, vI u1)], [], h) = some (.inl (some (vI v), h'))) : Met l ky_processor (kWs ky_processor method_6_code 5 khs_processor) kRm (kPc dC dI ad cA s0 qo [.ref (ad 2 0), .int u0, .int u1, .ref qo] h f) (kQc dC dI ad cA qo h' (fun r f1 => r = 0 ∧ f1 0 = v.toInt64)) 1 6 (kAo ad qo) := by
  refine kMet (cc := method_6_code) (maxL := 5) (ret := some .int) (hs := khs_processor) (by decide) List.mem_cons_self ?_
  intro p e s m args below meth c s₁ B hml htab hv
  obtain ⟨rfl, hP, hO, hK, hE⟩ := hv
  have hts := atoms_spec (ws := kWs ky_processor method_6_code 5 khs_processor) B.pre
  have hown : s.vm.findClass "LinkedCoresLaw" = some m.cls := findClass_of_methodNamed B.named
  have hlk := B.notSynchronized
  have hx := B.exec
  have hb := B.bytes
  have F : kFr dC dI cA p s0 s m _ c method_6_code 5 := ⟨hx, hb, hml, hown, fun w hw => hts w (List.mem_cons_of_mem _ hw), hK, hE.1⟩
  have hl := lv_entry ([.ref (ad 2 0), .int u0, .int u1, .ref qo]) (n := 5) (Nat.le_of_ble_eq_true rfl)
  rw [lg_entry_eq]
  generalize (lg_sl ([.ref (ad 2 0), .int u0, .int u1, .ref qo]) ++ List.replicate (5 - (lg_sl ([.ref (ad 2 0), .int u0, .int u1, .ref qo])).length) Slot.unset).toArray = ls at hl ⊢
  have hl : lv_has ls 5 [(0, .ref (ad 2 0)), (1, .int u0), (2, .int u1), (3, .ref qo)] := hl
  refine lv_aload_n (k := 3) hx hb kd_processor_0 rfl (lv_at hl 3 rfl) ?_
  refine lv_iconst (v := 0) hx hb kd_processor_1 rfl ?_
  refine lv_aload_n (k := 0) hx hb kd_processor_2 rfl (lv_at hl 0 rfl) ?_
  refine lv_iload_n (k := 1) hx hb kd_processor_3 rfl (lv_at hl 1 rfl) ?_
  refine lv_iload_n (k := 2) hx hb kd_processor_4 rfl (lv_at hl 2 rfl) ?_
  exact kw_r (as := [vI u0, vI u1]) (mj := 15) (pc := 5) (tgt := 25) k hqo F B.returns hlk (by decide) rfl kca_processor rfl hR (Nat.le_of_ble_eq_true rfl) (fun v hv => by simp at hv; rcases hv with rfl | rfl <;> trivial) hh rfl hl.1 hP hO hE kd_processor_5 kd_processor_8 kd_processor_9 kd_processor_10 rfl kd_processor_25 kd_processor_26
theorem kt_processor_t {l : Launch} {s0 : State} {dC : Nat → ClassId} {dI : Nat → Nat → Nat} {ad : Nat → Nat → Nat} {aV : Nat → Nat} {cA : Nat → ClassId} {qo : Nat} (k : kH l s0 ad aV) (hqo : ¬ mw_A ad qo) {a0 : Array Value} (hca : kCa s0 a0) {u0 : Int32} {u1 : Int32} {x0 n0 : Nat} {h h' : mj_H} {f : Nat → Int64} (hh : mw_hv h) (hR : mj_R mg 1322 mq_15 (0, [(0, vR 2 0), (1, vI u0), (2, vI u1)], [], h) = some (.inr (x0, h'))) (hn : ([3, 4, 1] : List Nat)[n0]? = some x0) : Met l ky_processor (kWs ky_processor method_6_code 5 khs_processor) kRm (kPc dC dI ad cA s0 qo [.ref (ad 2 0), .int u0, .int u1, .ref qo] h f) (kQc dC dI ad cA qo h' (fun r _ => r = nI (n0 + 1))) 1 6 (kAo ad qo) := by
  refine kMet (cc := method_6_code) (maxL := 5) (ret := some .int) (hs := khs_processor) (by decide) List.mem_cons_self ?_
  intro p e s m args below meth c s₁ B hml htab hv
  obtain ⟨rfl, hP, hO, hK, hE⟩ := hv
  have hts := atoms_spec (ws := kWs ky_processor method_6_code 5 khs_processor) B.pre
  have hown : s.vm.findClass "LinkedCoresLaw" = some m.cls := findClass_of_methodNamed B.named
  have hlk := B.notSynchronized
  have hx := B.exec
  have hb := B.bytes
  have F : kFr dC dI cA p s0 s m _ c method_6_code 5 := ⟨hx, hb, hml, hown, fun w hw => hts w (List.mem_cons_of_mem _ hw), hK, hE.1⟩
  have hl := lv_entry ([.ref (ad 2 0), .int u0, .int u1, .ref qo]) (n := 5) (Nat.le_of_ble_eq_true rfl)
  rw [lg_entry_eq]
  generalize (lg_sl ([.ref (ad 2 0), .int u0, .int u1, .ref qo]) ++ List.replicate (5 - (lg_sl ([.ref (ad 2 0), .int u0, .int u1, .ref qo])).length) Slot.unset).toArray = ls at hl ⊢
  have hl : lv_has ls 5 [(0, .ref (ad 2 0)), (1, .int u0), (2, .int u1), (3, .ref qo)] := hl
  refine lv_aload_n (k := 3) hx hb kd_processor_0 rfl (lv_at hl 3 rfl) ?_
  refine lv_iconst (v := 0) hx hb kd_processor_1 rfl ?_
  refine lv_aload_n (k := 0) hx hb kd_processor_2 rfl (lv_at hl 0 rfl) ?_
  refine lv_iload_n (k := 1) hx hb kd_processor_3 rfl (lv_at hl 1 rfl) ?_
  refine lv_iload_n (k := 2) hx hb kd_processor_4 rfl (lv_at hl 2 rfl) ?_
  have hn2 : n0 < 3 := (List.getElem?_eq_some_iff.mp hn).1
  have hn3 : n0 = 0 ∨ n0 = 1 ∨ n0 = 2 := by omega
  rcases hn3 with rfl | rfl | rfl
  · cases hn
    refine kw_t (as := [vI u0, vI u1]) (mj := 15) (pc := 5) (en := 10) (L := [(3, 13, 28), (4, 17, 30), (1, 21, 13)]) (n0 := 0) (y := (3, 13, 28)) (rest := [.int 0, .ref qo]) k hqo F B.returns hlk (by decide) rfl kca_processor rfl hR (Nat.le_of_ble_eq_true rfl) (fun v hv => by simp at hv; rcases hv with rfl | rfl <;> trivial) hh rfl hl.1 hP hO hE hca (Nat.le_of_ble_eq_true rfl) kd_processor_5 (by rw [htab]; rfl) (by decide) kcl_processor (knd_of (by decide)) rfl rfl hl (fun x9 H1 locs1 hS1 hq => ?_)
    refine lv_astore (nL := 5) hx hb kd_processor_13 hl (by decide) rfl (fun ls1 hl1 => ?_)
    refine lv_iconst (v := nI (0 + 1)) hx hb kd_processor_15 rfl ?_
    exact W.iret (v := nI (0 + 1)) hx hb B.returns hq hS1.2.2 kd_processor_16 hlk
  · cases hn
    refine kw_t (as := [vI u0, vI u1]) (mj := 15) (pc := 5) (en := 10) (L := [(3, 13, 28), (4, 17, 30), (1, 21, 13)]) (n0 := 1) (y := (4, 17, 30)) (rest := [.int 0, .ref qo]) k hqo F B.returns hlk (by decide) rfl kca_processor rfl hR (Nat.le_of_ble_eq_true rfl) (fun v hv => by simp at hv; rcases hv with rfl | rfl <;> trivial) hh rfl hl.1 hP hO hE hca (Nat.le_of_ble_eq_true rfl) kd_processor_5 (by rw [htab]; rfl) (by decide) kcl_processor (knd_of (by decide)) rfl rfl hl (fun x9 H1 locs1 hS1 hq => ?_)
    refine lv_astore (nL := 5) hx hb kd_processor_17 hl (by decide) rfl (fun ls1 hl1 => ?_)
    refine lv_iconst (v := nI (1 + 1)) hx hb kd_processor_19 rfl ?_
    exact W.iret (v := nI (1 + 1)) hx hb B.returns hq hS1.2.2 kd_processor_20 hlk
  · cases hn
    refine kw_t (as := [vI u0, vI u1]) (mj := 15) (pc := 5) (en := 10) (L := [(3, 13, 28), (4, 17, 30), (1, 21, 13)]) (n0 := 2) (y := (1, 21, 13)) (rest := [.int 0, .ref qo]) k hqo F B.returns hlk (by decide) rfl kca_processor rfl hR (Nat.le_of_ble_eq_true rfl) (fun v hv => by simp at hv; rcases hv with rfl | rfl <;> trivial) hh rfl hl.1 hP hO hE hca (Nat.le_of_ble_eq_true rfl) kd_processor_5 (by rw [htab]; rfl) (by decide) kcl_processor (knd_of (by decide)) rfl rfl hl (fun x9 H1 locs1 hS1 hq => ?_)
    refine lv_astore (nL := 5) hx hb kd_processor_21 hl (by decide) rfl (fun ls1 hl1 => ?_)
    refine lv_iconst (v := nI (2 + 1)) hx hb kd_processor_23 rfl ?_
    exact W.iret (v := nI (2 + 1)) hx hb B.returns hq hS1.2.2 kd_processor_24 hlk
theorem kd_code_0 : decode method_7_code 0 = .ok (.aload_n 3, 1) := by decide +kernel
theorem kd_code_1 : decode method_7_code 1 = .ok (.iconst 0, 1) := by decide +kernel
theorem kd_code_2 : decode method_7_code 2 = .ok (.aload_n 0, 1) := by decide +kernel
theorem kd_code_3 : decode method_7_code 3 = .ok (.iload_n 1, 1) := by decide +kernel
theorem kd_code_4 : decode method_7_code 4 = .ok (.iload_n 2, 1) := by decide +kernel
theorem kd_code_5 : decode method_7_code 5 = .ok (.invokevirtual 32, 3) := by decide +kernel
theorem kd_code_8 : decode method_7_code 8 = .ok (.i2l, 1) := by decide +kernel
theorem kd_code_9 : decode method_7_code 9 = .ok (.lastore, 1) := by decide +kernel
theorem kd_code_10 : decode method_7_code 10 = .ok (.goto 15, 3) := by decide +kernel
theorem kd_code_13 : decode method_7_code 13 = .ok (.astore 4, 2) := by decide +kernel
theorem kd_code_15 : decode method_7_code 15 = .ok (.iconst 1, 1) := by decide +kernel
theorem kd_code_16 : decode method_7_code 16 = .ok (.ireturn, 1) := by decide +kernel
theorem kd_code_17 : decode method_7_code 17 = .ok (.astore 4, 2) := by decide +kernel
theorem kd_code_19 : decode method_7_code 19 = .ok (.iconst 2, 1) := by decide +kernel
theorem kd_code_20 : decode method_7_code 20 = .ok (.ireturn, 1) := by decide +kernel
theorem kd_code_21 : decode method_7_code 21 = .ok (.astore 4, 2) := by decide +kernel
theorem kd_code_23 : decode method_7_code 23 = .ok (.iconst 3, 1) := by decide +kernel
theorem kd_code_24 : decode method_7_code 24 = .ok (.ireturn, 1) := by decide +kernel
theorem kd_code_25 : decode method_7_code 25 = .ok (.iconst 0, 1) := by decide +kernel
theorem kd_code_26 : decode method_7_code 26 = .ok (.ireturn, 1) := by decide +kernel
def ky_code : MethodName := ⟨"LinkedCoresLaw", "code", "(LLinkedCores;II[J)I"⟩
def khs_code : List (Nat × Nat × Nat × Nat) := [(0, 10, 13, 28), (0, 10, 17, 30), (0, 10, 21, 35)]
theorem kca_code : Cond.methodLink "LinkedCoresLaw" 32 (mw_y 16) ∈ mw_good := mw_good_of (mw_tm7 (List.mem_of_getElem? (i := 199) rfl)) rfl
theorem kcl_code : ∀ q ∈ ([(3, 13, 28), (4, 17, 30), (2, 21, 35)] : List (Nat × Nat × Nat)), 0 < q.1 ∧ q.1 < 6 ∧ q.2.2 ≠ 0 ∧ Cond.classLink "LinkedCoresLaw" q.2.2 (mw_xn q.1) ∈ mw_good := List.forall_mem_cons.mpr ⟨⟨by decide, by decide, by decide, klk_3⟩, List.forall_mem_cons.mpr ⟨⟨by decide, by decide, by decide, klk_4⟩, List.forall_mem_cons.mpr ⟨⟨by decide, by decide, by decide, klk_2⟩, fun _ h => absurd h List.not_mem_nil⟩⟩⟩
theorem kt_code_r {l : Launch} {s0 : State} {dC : Nat → ClassId} {dI : Nat → Nat → Nat} {ad : Nat → Nat → Nat} {aV : Nat → Nat} {cA : Nat → ClassId} {qo : Nat} (k : kH l s0 ad aV) (hqo : ¬ mw_A ad qo) {u0 : Int32} {u1 : Int32} {v : Int32} {h h' : mj_H} {f : Nat → Int64} (hh : mw_hv h) (hR : mj_R mg 1322 mq_16 (0, [(0, vR 2 0), (1, vI u0), (2, vI u1)], [], h) = some (.inl (some (vI v), h'))) : Met l ky_code (kWs ky_code method_7_code 5 khs_code) kRm (kPc dC dI ad cA s0 qo [.ref (ad 2 0), .int u0, .int u1, .ref qo] h f) (kQc dC dI ad cA qo h' (fun r f1 => r = 0 ∧ f1 0 = v.toInt64)) 1 6 (kAo ad qo) := by
  refine kMet (cc := method_7_code) (maxL := 5) (ret := some .int) (hs := khs_code) (by decide) List.mem_cons_self ?_
  intro p e s m args below meth c s₁ B hml htab hv
  obtain ⟨rfl, hP, hO, hK, hE⟩ := hv
  have hts := atoms_spec (ws := kWs ky_code method_7_code 5 khs_code) B.pre
  have hown : s.vm.findClass "LinkedCoresLaw" = some m.cls := findClass_of_methodNamed B.named
  have hlk := B.notSynchronized
  have hx := B.exec
  have hb := B.bytes
  have F : kFr dC dI cA p s0 s m _ c method_7_code 5 := ⟨hx, hb, hml, hown, fun w hw => hts w (List.mem_cons_of_mem _ hw), hK, hE.1⟩
  have hl := lv_entry ([.ref (ad 2 0), .int u0, .int u1, .ref qo]) (n := 5) (Nat.le_of_ble_eq_true rfl)
  rw [lg_entry_eq]
  generalize (lg_sl ([.ref (ad 2 0), .int u0, .int u1, .ref qo]) ++ List.replicate (5 - (lg_sl ([.ref (ad 2 0), .int u0, .int u1, .ref qo])).length) Slot.unset).toArray = ls at hl ⊢
  have hl : lv_has ls 5 [(0, .ref (ad 2 0)), (1, .int u0), (2, .int u1), (3, .ref qo)] := hl
  refine lv_aload_n (k := 3) hx hb kd_code_0 rfl (lv_at hl 3 rfl) ?_
  refine lv_iconst (v := 0) hx hb kd_code_1 rfl ?_
  refine lv_aload_n (k := 0) hx hb kd_code_2 rfl (lv_at hl 0 rfl) ?_
  refine lv_iload_n (k := 1) hx hb kd_code_3 rfl (lv_at hl 1 rfl) ?_
  refine lv_iload_n (k := 2) hx hb kd_code_4 rfl (lv_at hl 2 rfl) ?_
  exact kw_r (as := [vI u0, vI u1]) (mj := 16) (pc := 5) (tgt := 25) k hqo F B.returns hlk (by decide) rfl kca_code rfl hR (Nat.le_of_ble_eq_true rfl) (fun v hv => by simp at hv; rcases hv with rfl | rfl <;> trivial) hh rfl hl.1 hP hO hE kd_code_5 kd_code_8 kd_code_9 kd_code_10 rfl kd_code_25 kd_code_26
theorem kt_code_t {l : Launch} {s0 : State} {dC : Nat → ClassId} {dI : Nat → Nat → Nat} {ad : Nat → Nat → Nat} {aV : Nat → Nat} {cA : Nat → ClassId} {qo : Nat} (k : kH l s0 ad aV) (hqo : ¬ mw_A ad qo) {a0 : Array Value} (hca : kCa s0 a0) {u0 : Int32} {u1 : Int32} {x0 n0 : Nat} {h h' : mj_H} {f : Nat → Int64} (hh : mw_hv h) (hR : mj_R mg 1322 mq_16 (0, [(0, vR 2 0), (1, vI u0), (2, vI u1)], [], h) = some (.inr (x0, h'))) (hn : ([3, 4, 2] : List Nat)[n0]? = some x0) : Met l ky_code (kWs ky_code method_7_code 5 khs_code) kRm (kPc dC dI ad cA s0 qo [.ref (ad 2 0), .int u0, .int u1, .ref qo] h f) (kQc dC dI ad cA qo h' (fun r _ => r = nI (n0 + 1))) 1 6 (kAo ad qo) := by
  refine kMet (cc := method_7_code) (maxL := 5) (ret := some .int) (hs := khs_code) (by decide) List.mem_cons_self ?_
  intro p e s m args below meth c s₁ B hml htab hv
  obtain ⟨rfl, hP, hO, hK, hE⟩ := hv
  have hts := atoms_spec (ws := kWs ky_code method_7_code 5 khs_code) B.pre
  have hown : s.vm.findClass "LinkedCoresLaw" = some m.cls := findClass_of_methodNamed B.named
  have hlk := B.notSynchronized
  have hx := B.exec
  have hb := B.bytes
  have F : kFr dC dI cA p s0 s m _ c method_7_code 5 := ⟨hx, hb, hml, hown, fun w hw => hts w (List.mem_cons_of_mem _ hw), hK, hE.1⟩
  have hl := lv_entry ([.ref (ad 2 0), .int u0, .int u1, .ref qo]) (n := 5) (Nat.le_of_ble_eq_true rfl)
  rw [lg_entry_eq]
  generalize (lg_sl ([.ref (ad 2 0), .int u0, .int u1, .ref qo]) ++ List.replicate (5 - (lg_sl ([.ref (ad 2 0), .int u0, .int u1, .ref qo])).length) Slot.unset).toArray = ls at hl ⊢
  have hl : lv_has ls 5 [(0, .ref (ad 2 0)), (1, .int u0), (2, .int u1), (3, .ref qo)] := hl
  refine lv_aload_n (k := 3) hx hb kd_code_0 rfl (lv_at hl 3 rfl) ?_
  refine lv_iconst (v := 0) hx hb kd_code_1 rfl ?_
  refine lv_aload_n (k := 0) hx hb kd_code_2 rfl (lv_at hl 0 rfl) ?_
  refine lv_iload_n (k := 1) hx hb kd_code_3 rfl (lv_at hl 1 rfl) ?_
  refine lv_iload_n (k := 2) hx hb kd_code_4 rfl (lv_at hl 2 rfl) ?_
  have hn2 : n0 < 3 := (List.getElem?_eq_some_iff.mp hn).1
  have hn3 : n0 = 0 ∨ n0 = 1 ∨ n0 = 2 := by omega
  rcases hn3 with rfl | rfl | rfl
  · cases hn
    refine kw_t (as := [vI u0, vI u1]) (mj := 16) (pc := 5) (en := 10) (L := [(3, 13, 28), (4, 17, 30), (2, 21, 35)]) (n0 := 0) (y := (3, 13, 28)) (rest := [.int 0, .ref qo]) k hqo F B.returns hlk (by decide) rfl kca_code rfl hR (Nat.le_of_ble_eq_true rfl) (fun v hv => by simp at hv; rcases hv with rfl | rfl <;> trivial) hh rfl hl.1 hP hO hE hca (Nat.le_of_ble_eq_true rfl) kd_code_5 (by rw [htab]; rfl) (by decide) kcl_code (knd_of (by decide)) rfl rfl hl (fun x9 H1 locs1 hS1 hq => ?_)
    refine lv_astore (nL := 5) hx hb kd_code_13 hl (by decide) rfl (fun ls1 hl1 => ?_)
    refine lv_iconst (v := nI (0 + 1)) hx hb kd_code_15 rfl ?_
    exact W.iret (v := nI (0 + 1)) hx hb B.returns hq hS1.2.2 kd_code_16 hlk
  · cases hn
    refine kw_t (as := [vI u0, vI u1]) (mj := 16) (pc := 5) (en := 10) (L := [(3, 13, 28), (4, 17, 30), (2, 21, 35)]) (n0 := 1) (y := (4, 17, 30)) (rest := [.int 0, .ref qo]) k hqo F B.returns hlk (by decide) rfl kca_code rfl hR (Nat.le_of_ble_eq_true rfl) (fun v hv => by simp at hv; rcases hv with rfl | rfl <;> trivial) hh rfl hl.1 hP hO hE hca (Nat.le_of_ble_eq_true rfl) kd_code_5 (by rw [htab]; rfl) (by decide) kcl_code (knd_of (by decide)) rfl rfl hl (fun x9 H1 locs1 hS1 hq => ?_)
    refine lv_astore (nL := 5) hx hb kd_code_17 hl (by decide) rfl (fun ls1 hl1 => ?_)
    refine lv_iconst (v := nI (1 + 1)) hx hb kd_code_19 rfl ?_
    exact W.iret (v := nI (1 + 1)) hx hb B.returns hq hS1.2.2 kd_code_20 hlk
  · cases hn
    refine kw_t (as := [vI u0, vI u1]) (mj := 16) (pc := 5) (en := 10) (L := [(3, 13, 28), (4, 17, 30), (2, 21, 35)]) (n0 := 2) (y := (2, 21, 35)) (rest := [.int 0, .ref qo]) k hqo F B.returns hlk (by decide) rfl kca_code rfl hR (Nat.le_of_ble_eq_true rfl) (fun v hv => by simp at hv; rcases hv with rfl | rfl <;> trivial) hh rfl hl.1 hP hO hE hca (Nat.le_of_ble_eq_true rfl) kd_code_5 (by rw [htab]; rfl) (by decide) kcl_code (knd_of (by decide)) rfl rfl hl (fun x9 H1 locs1 hS1 hq => ?_)
    refine lv_astore (nL := 5) hx hb kd_code_21 hl (by decide) rfl (fun ls1 hl1 => ?_)
    refine lv_iconst (v := nI (2 + 1)) hx hb kd_code_23 rfl ?_
    exact W.iret (v := nI (2 + 1)) hx hb B.returns hq hS1.2.2 kd_code_24 hlk
theorem kd_instruction_0 : decode method_8_code 0 = .ok (.aload 4, 2) := by decide +kernel
theorem kd_instruction_2 : decode method_8_code 2 = .ok (.iconst 0, 1) := by decide +kernel
theorem kd_instruction_3 : decode method_8_code 3 = .ok (.aload_n 0, 1) := by decide +kernel
theorem kd_instruction_4 : decode method_8_code 4 = .ok (.iload_n 1, 1) := by decide +kernel
theorem kd_instruction_5 : decode method_8_code 5 = .ok (.iload_n 2, 1) := by decide +kernel
theorem kd_instruction_6 : decode method_8_code 6 = .ok (.iload_n 3, 1) := by decide +kernel
theorem kd_instruction_7 : decode method_8_code 7 = .ok (.invokevirtual 37, 3) := by decide +kernel
theorem kd_instruction_10 : decode method_8_code 10 = .ok (.i2l, 1) := by decide +kernel
theorem kd_instruction_11 : decode method_8_code 11 = .ok (.lastore, 1) := by decide +kernel
theorem kd_instruction_12 : decode method_8_code 12 = .ok (.goto 19, 3) := by decide +kernel
theorem kd_instruction_15 : decode method_8_code 15 = .ok (.astore 5, 2) := by decide +kernel
theorem kd_instruction_17 : decode method_8_code 17 = .ok (.iconst 1, 1) := by decide +kernel
theorem kd_instruction_18 : decode method_8_code 18 = .ok (.ireturn, 1) := by decide +kernel
theorem kd_instruction_19 : decode method_8_code 19 = .ok (.astore 5, 2) := by decide +kernel
theorem kd_instruction_21 : decode method_8_code 21 = .ok (.iconst 2, 1) := by decide +kernel
theorem kd_instruction_22 : decode method_8_code 22 = .ok (.ireturn, 1) := by decide +kernel
theorem kd_instruction_23 : decode method_8_code 23 = .ok (.astore 5, 2) := by decide +kernel
theorem kd_instruction_25 : decode method_8_code 25 = .ok (.iconst 3, 1) := by decide +kernel
theorem kd_instruction_26 : decode method_8_code 26 = .ok (.ireturn, 1) := by decide +kernel
theorem kd_instruction_27 : decode method_8_code 27 = .ok (.astore 5, 2) := by decide +kernel
theorem kd_instruction_29 : decode method_8_code 29 = .ok (.iconst 4, 1) := by decide +kernel
theorem kd_instruction_30 : decode method_8_code 30 = .ok (.ireturn, 1) := by decide +kernel
theorem kd_instruction_31 : decode method_8_code 31 = .ok (.iconst 0, 1) := by decide +kernel
theorem kd_instruction_32 : decode method_8_code 32 = .ok (.ireturn, 1) := by decide +kernel
def ky_instruction : MethodName := ⟨"LinkedCoresLaw", "instruction", "(LLinkedCores;III[J)I"⟩
def khs_instruction : List (Nat × Nat × Nat × Nat) := [(0, 12, 15, 28), (0, 12, 19, 30), (0, 12, 23, 35), (0, 12, 27, 13)]
theorem kca_instruction : Cond.methodLink "LinkedCoresLaw" 37 (mw_y 17) ∈ mw_good := mw_good_of (mw_tm7 (List.mem_of_getElem? (i := 224) rfl)) rfl
theorem kcl_instruction : ∀ q ∈ ([(3, 15, 28), (4, 19, 30), (2, 23, 35), (1, 27, 13)] : List (Nat × Nat × Nat)), 0 < q.1 ∧ q.1 < 6 ∧ q.2.2 ≠ 0 ∧ Cond.classLink "LinkedCoresLaw" q.2.2 (mw_xn q.1) ∈ mw_good := List.forall_mem_cons.mpr ⟨⟨by decide, by decide, by decide, klk_3⟩, List.forall_mem_cons.mpr ⟨⟨by decide, by decide, by decide, klk_4⟩, List.forall_mem_cons.mpr ⟨⟨by decide, by decide, by decide, klk_2⟩, List.forall_mem_cons.mpr ⟨⟨by decide, by decide, by decide, klk_1⟩, fun _ h => absurd h List.not_mem_nil⟩⟩⟩⟩
theorem kt_instruction_r {l : Launch} {s0 : State} {dC : Nat → ClassId} {dI : Nat → Nat → Nat} {ad : Nat → Nat → Nat} {aV : Nat → Nat} {cA : Nat → ClassId} {qo : Nat} (k : kH l s0 ad aV) (hqo : ¬ mw_A ad qo) {u0 : Int32} {u1 : Int32} {u2 : Int32} {v : Int32} {h h' : mj_H} {f : Nat → Int64} (hh : mw_hv h) (hR : mj_R mg 1322 mq_17 (0, [(0, vR 2 0), (1, vI u0), (2, vI u1), (3, vI u2)], [], h) = some (.inl (some (vI v), h'))) : Met l ky_instruction (kWs ky_instruction method_8_code 6 khs_instruction) kRm (kPc dC dI ad cA s0 qo [.ref (ad 2 0), .int u0, .int u1, .int u2, .ref qo] h f) (kQc dC dI ad cA qo h' (fun r f1 => r = 0 ∧ f1 0 = v.toInt64)) 1 6 (kAo ad qo) := by
  refine kMet (cc := method_8_code) (maxL := 6) (ret := some .int) (hs := khs_instruction) (by decide) List.mem_cons_self ?_
  intro p e s m args below meth c s₁ B hml htab hv
  obtain ⟨rfl, hP, hO, hK, hE⟩ := hv
  have hts := atoms_spec (ws := kWs ky_instruction method_8_code 6 khs_instruction) B.pre
  have hown : s.vm.findClass "LinkedCoresLaw" = some m.cls := findClass_of_methodNamed B.named
  have hlk := B.notSynchronized
  have hx := B.exec
  have hb := B.bytes
  have F : kFr dC dI cA p s0 s m _ c method_8_code 6 := ⟨hx, hb, hml, hown, fun w hw => hts w (List.mem_cons_of_mem _ hw), hK, hE.1⟩
  have hl := lv_entry ([.ref (ad 2 0), .int u0, .int u1, .int u2, .ref qo]) (n := 6) (Nat.le_of_ble_eq_true rfl)
  rw [lg_entry_eq]
  generalize (lg_sl ([.ref (ad 2 0), .int u0, .int u1, .int u2, .ref qo]) ++ List.replicate (6 - (lg_sl ([.ref (ad 2 0), .int u0, .int u1, .int u2, .ref qo])).length) Slot.unset).toArray = ls at hl ⊢
  have hl : lv_has ls 6 [(0, .ref (ad 2 0)), (1, .int u0), (2, .int u1), (3, .int u2), (4, .ref qo)] := hl
  refine lv_aload hx hb kd_instruction_0 (lv_at hl 4 rfl) ?_
  refine lv_iconst (v := 0) hx hb kd_instruction_2 rfl ?_
  refine lv_aload_n (k := 0) hx hb kd_instruction_3 rfl (lv_at hl 0 rfl) ?_
  refine lv_iload_n (k := 1) hx hb kd_instruction_4 rfl (lv_at hl 1 rfl) ?_
  refine lv_iload_n (k := 2) hx hb kd_instruction_5 rfl (lv_at hl 2 rfl) ?_
  refine lv_iload_n (k := 3) hx hb kd_instruction_6 rfl (lv_at hl 3 rfl) ?_
  exact kw_r (as := [vI u0, vI u1, vI u2]) (mj := 17) (pc := 7) (tgt := 31) k hqo F B.returns hlk (by decide) rfl kca_instruction rfl hR (Nat.le_of_ble_eq_true rfl) (fun v hv => by simp at hv; rcases hv with rfl | rfl | rfl <;> trivial) hh rfl hl.1 hP hO hE kd_instruction_7 kd_instruction_10 kd_instruction_11 kd_instruction_12 rfl kd_instruction_31 kd_instruction_32
theorem kt_instruction_t {l : Launch} {s0 : State} {dC : Nat → ClassId} {dI : Nat → Nat → Nat} {ad : Nat → Nat → Nat} {aV : Nat → Nat} {cA : Nat → ClassId} {qo : Nat} (k : kH l s0 ad aV) (hqo : ¬ mw_A ad qo) {a0 : Array Value} (hca : kCa s0 a0) {u0 : Int32} {u1 : Int32} {u2 : Int32} {x0 n0 : Nat} {h h' : mj_H} {f : Nat → Int64} (hh : mw_hv h) (hR : mj_R mg 1322 mq_17 (0, [(0, vR 2 0), (1, vI u0), (2, vI u1), (3, vI u2)], [], h) = some (.inr (x0, h'))) (hn : ([3, 4, 2, 1] : List Nat)[n0]? = some x0) : Met l ky_instruction (kWs ky_instruction method_8_code 6 khs_instruction) kRm (kPc dC dI ad cA s0 qo [.ref (ad 2 0), .int u0, .int u1, .int u2, .ref qo] h f) (kQc dC dI ad cA qo h' (fun r _ => r = nI (n0 + 1))) 1 6 (kAo ad qo) := by
  refine kMet (cc := method_8_code) (maxL := 6) (ret := some .int) (hs := khs_instruction) (by decide) List.mem_cons_self ?_
  intro p e s m args below meth c s₁ B hml htab hv
  obtain ⟨rfl, hP, hO, hK, hE⟩ := hv
  have hts := atoms_spec (ws := kWs ky_instruction method_8_code 6 khs_instruction) B.pre
  have hown : s.vm.findClass "LinkedCoresLaw" = some m.cls := findClass_of_methodNamed B.named
  have hlk := B.notSynchronized
  have hx := B.exec
  have hb := B.bytes
  have F : kFr dC dI cA p s0 s m _ c method_8_code 6 := ⟨hx, hb, hml, hown, fun w hw => hts w (List.mem_cons_of_mem _ hw), hK, hE.1⟩
  have hl := lv_entry ([.ref (ad 2 0), .int u0, .int u1, .int u2, .ref qo]) (n := 6) (Nat.le_of_ble_eq_true rfl)
  rw [lg_entry_eq]
  generalize (lg_sl ([.ref (ad 2 0), .int u0, .int u1, .int u2, .ref qo]) ++ List.replicate (6 - (lg_sl ([.ref (ad 2 0), .int u0, .int u1, .int u2, .ref qo])).length) Slot.unset).toArray = ls at hl ⊢
  have hl : lv_has ls 6 [(0, .ref (ad 2 0)), (1, .int u0), (2, .int u1), (3, .int u2), (4, .ref qo)] := hl
  refine lv_aload hx hb kd_instruction_0 (lv_at hl 4 rfl) ?_
  refine lv_iconst (v := 0) hx hb kd_instruction_2 rfl ?_
  refine lv_aload_n (k := 0) hx hb kd_instruction_3 rfl (lv_at hl 0 rfl) ?_
  refine lv_iload_n (k := 1) hx hb kd_instruction_4 rfl (lv_at hl 1 rfl) ?_
  refine lv_iload_n (k := 2) hx hb kd_instruction_5 rfl (lv_at hl 2 rfl) ?_
  refine lv_iload_n (k := 3) hx hb kd_instruction_6 rfl (lv_at hl 3 rfl) ?_
  have hn2 : n0 < 4 := (List.getElem?_eq_some_iff.mp hn).1
  have hn3 : n0 = 0 ∨ n0 = 1 ∨ n0 = 2 ∨ n0 = 3 := by omega
  rcases hn3 with rfl | rfl | rfl | rfl
  · cases hn
    refine kw_t (as := [vI u0, vI u1, vI u2]) (mj := 17) (pc := 7) (en := 12) (L := [(3, 15, 28), (4, 19, 30), (2, 23, 35), (1, 27, 13)]) (n0 := 0) (y := (3, 15, 28)) (rest := [.int 0, .ref qo]) k hqo F B.returns hlk (by decide) rfl kca_instruction rfl hR (Nat.le_of_ble_eq_true rfl) (fun v hv => by simp at hv; rcases hv with rfl | rfl | rfl <;> trivial) hh rfl hl.1 hP hO hE hca (Nat.le_of_ble_eq_true rfl) kd_instruction_7 (by rw [htab]; rfl) (by decide) kcl_instruction (knd_of (by decide)) rfl rfl hl (fun x9 H1 locs1 hS1 hq => ?_)
    refine lv_astore (nL := 6) hx hb kd_instruction_15 hl (by decide) rfl (fun ls1 hl1 => ?_)
    refine lv_iconst (v := nI (0 + 1)) hx hb kd_instruction_17 rfl ?_
    exact W.iret (v := nI (0 + 1)) hx hb B.returns hq hS1.2.2 kd_instruction_18 hlk
  · cases hn
    refine kw_t (as := [vI u0, vI u1, vI u2]) (mj := 17) (pc := 7) (en := 12) (L := [(3, 15, 28), (4, 19, 30), (2, 23, 35), (1, 27, 13)]) (n0 := 1) (y := (4, 19, 30)) (rest := [.int 0, .ref qo]) k hqo F B.returns hlk (by decide) rfl kca_instruction rfl hR (Nat.le_of_ble_eq_true rfl) (fun v hv => by simp at hv; rcases hv with rfl | rfl | rfl <;> trivial) hh rfl hl.1 hP hO hE hca (Nat.le_of_ble_eq_true rfl) kd_instruction_7 (by rw [htab]; rfl) (by decide) kcl_instruction (knd_of (by decide)) rfl rfl hl (fun x9 H1 locs1 hS1 hq => ?_)
    refine lv_astore (nL := 6) hx hb kd_instruction_19 hl (by decide) rfl (fun ls1 hl1 => ?_)
    refine lv_iconst (v := nI (1 + 1)) hx hb kd_instruction_21 rfl ?_
    exact W.iret (v := nI (1 + 1)) hx hb B.returns hq hS1.2.2 kd_instruction_22 hlk
  · cases hn
    refine kw_t (as := [vI u0, vI u1, vI u2]) (mj := 17) (pc := 7) (en := 12) (L := [(3, 15, 28), (4, 19, 30), (2, 23, 35), (1, 27, 13)]) (n0 := 2) (y := (2, 23, 35)) (rest := [.int 0, .ref qo]) k hqo F B.returns hlk (by decide) rfl kca_instruction rfl hR (Nat.le_of_ble_eq_true rfl) (fun v hv => by simp at hv; rcases hv with rfl | rfl | rfl <;> trivial) hh rfl hl.1 hP hO hE hca (Nat.le_of_ble_eq_true rfl) kd_instruction_7 (by rw [htab]; rfl) (by decide) kcl_instruction (knd_of (by decide)) rfl rfl hl (fun x9 H1 locs1 hS1 hq => ?_)
    refine lv_astore (nL := 6) hx hb kd_instruction_23 hl (by decide) rfl (fun ls1 hl1 => ?_)
    refine lv_iconst (v := nI (2 + 1)) hx hb kd_instruction_25 rfl ?_
    exact W.iret (v := nI (2 + 1)) hx hb B.returns hq hS1.2.2 kd_instruction_26 hlk
  · cases hn
    refine kw_t (as := [vI u0, vI u1, vI u2]) (mj := 17) (pc := 7) (en := 12) (L := [(3, 15, 28), (4, 19, 30), (2, 23, 35), (1, 27, 13)]) (n0 := 3) (y := (1, 27, 13)) (rest := [.int 0, .ref qo]) k hqo F B.returns hlk (by decide) rfl kca_instruction rfl hR (Nat.le_of_ble_eq_true rfl) (fun v hv => by simp at hv; rcases hv with rfl | rfl | rfl <;> trivial) hh rfl hl.1 hP hO hE hca (Nat.le_of_ble_eq_true rfl) kd_instruction_7 (by rw [htab]; rfl) (by decide) kcl_instruction (knd_of (by decide)) rfl rfl hl (fun x9 H1 locs1 hS1 hq => ?_)
    refine lv_astore (nL := 6) hx hb kd_instruction_27 hl (by decide) rfl (fun ls1 hl1 => ?_)
    refine lv_iconst (v := nI (3 + 1)) hx hb kd_instruction_29 rfl ?_
    exact W.iret (v := nI (3 + 1)) hx hb B.returns hq hS1.2.2 kd_instruction_30 hlk
theorem kd_link_0 : decode method_9_code 0 = .ok (.aload_n 3, 1) := by decide +kernel
theorem kd_link_1 : decode method_9_code 1 = .ok (.iconst 0, 1) := by decide +kernel
theorem kd_link_2 : decode method_9_code 2 = .ok (.aload_n 0, 1) := by decide +kernel
theorem kd_link_3 : decode method_9_code 3 = .ok (.iload_n 1, 1) := by decide +kernel
theorem kd_link_4 : decode method_9_code 4 = .ok (.iload_n 2, 1) := by decide +kernel
theorem kd_link_5 : decode method_9_code 5 = .ok (.invokevirtual 41, 3) := by decide +kernel
theorem kd_link_8 : decode method_9_code 8 = .ok (.i2l, 1) := by decide +kernel
theorem kd_link_9 : decode method_9_code 9 = .ok (.lastore, 1) := by decide +kernel
theorem kd_link_10 : decode method_9_code 10 = .ok (.goto 15, 3) := by decide +kernel
theorem kd_link_13 : decode method_9_code 13 = .ok (.astore 4, 2) := by decide +kernel
theorem kd_link_15 : decode method_9_code 15 = .ok (.iconst 1, 1) := by decide +kernel
theorem kd_link_16 : decode method_9_code 16 = .ok (.ireturn, 1) := by decide +kernel
theorem kd_link_17 : decode method_9_code 17 = .ok (.astore 4, 2) := by decide +kernel
theorem kd_link_19 : decode method_9_code 19 = .ok (.iconst 2, 1) := by decide +kernel
theorem kd_link_20 : decode method_9_code 20 = .ok (.ireturn, 1) := by decide +kernel
theorem kd_link_21 : decode method_9_code 21 = .ok (.astore 4, 2) := by decide +kernel
theorem kd_link_23 : decode method_9_code 23 = .ok (.iconst 3, 1) := by decide +kernel
theorem kd_link_24 : decode method_9_code 24 = .ok (.ireturn, 1) := by decide +kernel
theorem kd_link_25 : decode method_9_code 25 = .ok (.iconst 0, 1) := by decide +kernel
theorem kd_link_26 : decode method_9_code 26 = .ok (.ireturn, 1) := by decide +kernel
def ky_link : MethodName := ⟨"LinkedCoresLaw", "link", "(LLinkedCores;II[J)I"⟩
def khs_link : List (Nat × Nat × Nat × Nat) := [(0, 10, 13, 28), (0, 10, 17, 35), (0, 10, 21, 13)]
theorem kca_link : Cond.methodLink "LinkedCoresLaw" 41 (mw_y 18) ∈ mw_good := mw_good_of (mw_tm7 (List.mem_of_getElem? (i := 231) rfl)) rfl
theorem kcl_link : ∀ q ∈ ([(3, 13, 28), (2, 17, 35), (1, 21, 13)] : List (Nat × Nat × Nat)), 0 < q.1 ∧ q.1 < 6 ∧ q.2.2 ≠ 0 ∧ Cond.classLink "LinkedCoresLaw" q.2.2 (mw_xn q.1) ∈ mw_good := List.forall_mem_cons.mpr ⟨⟨by decide, by decide, by decide, klk_3⟩, List.forall_mem_cons.mpr ⟨⟨by decide, by decide, by decide, klk_2⟩, List.forall_mem_cons.mpr ⟨⟨by decide, by decide, by decide, klk_1⟩, fun _ h => absurd h List.not_mem_nil⟩⟩⟩
theorem kt_link_r {l : Launch} {s0 : State} {dC : Nat → ClassId} {dI : Nat → Nat → Nat} {ad : Nat → Nat → Nat} {aV : Nat → Nat} {cA : Nat → ClassId} {qo : Nat} (k : kH l s0 ad aV) (hqo : ¬ mw_A ad qo) {u0 : Int32} {u1 : Int32} {v : Int32} {h h' : mj_H} {f : Nat → Int64} (hh : mw_hv h) (hR : mj_R mg 1322 mq_18 (0, [(0, vR 2 0), (1, vI u0), (2, vI u1)], [], h) = some (.inl (some (vI v), h'))) : Met l ky_link (kWs ky_link method_9_code 5 khs_link) kRm (kPc dC dI ad cA s0 qo [.ref (ad 2 0), .int u0, .int u1, .ref qo] h f) (kQc dC dI ad cA qo h' (fun r f1 => r = 0 ∧ f1 0 = v.toInt64)) 1 6 (kAo ad qo) := by
  refine kMet (cc := method_9_code) (maxL := 5) (ret := some .int) (hs := khs_link) (by decide) List.mem_cons_self ?_
  intro p e s m args below meth c s₁ B hml htab hv
  obtain ⟨rfl, hP, hO, hK, hE⟩ := hv
  have hts := atoms_spec (ws := kWs ky_link method_9_code 5 khs_link) B.pre
  have hown : s.vm.findClass "LinkedCoresLaw" = some m.cls := findClass_of_methodNamed B.named
  have hlk := B.notSynchronized
  have hx := B.exec
  have hb := B.bytes
  have F : kFr dC dI cA p s0 s m _ c method_9_code 5 := ⟨hx, hb, hml, hown, fun w hw => hts w (List.mem_cons_of_mem _ hw), hK, hE.1⟩
  have hl := lv_entry ([.ref (ad 2 0), .int u0, .int u1, .ref qo]) (n := 5) (Nat.le_of_ble_eq_true rfl)
  rw [lg_entry_eq]
  generalize (lg_sl ([.ref (ad 2 0), .int u0, .int u1, .ref qo]) ++ List.replicate (5 - (lg_sl ([.ref (ad 2 0), .int u0, .int u1, .ref qo])).length) Slot.unset).toArray = ls at hl ⊢
  have hl : lv_has ls 5 [(0, .ref (ad 2 0)), (1, .int u0), (2, .int u1), (3, .ref qo)] := hl
  refine lv_aload_n (k := 3) hx hb kd_link_0 rfl (lv_at hl 3 rfl) ?_
  refine lv_iconst (v := 0) hx hb kd_link_1 rfl ?_
  refine lv_aload_n (k := 0) hx hb kd_link_2 rfl (lv_at hl 0 rfl) ?_
  refine lv_iload_n (k := 1) hx hb kd_link_3 rfl (lv_at hl 1 rfl) ?_
  refine lv_iload_n (k := 2) hx hb kd_link_4 rfl (lv_at hl 2 rfl) ?_
  exact kw_r (as := [vI u0, vI u1]) (mj := 18) (pc := 5) (tgt := 25) k hqo F B.returns hlk (by decide) rfl kca_link rfl hR (Nat.le_of_ble_eq_true rfl) (fun v hv => by simp at hv; rcases hv with rfl | rfl <;> trivial) hh rfl hl.1 hP hO hE kd_link_5 kd_link_8 kd_link_9 kd_link_10 rfl kd_link_25 kd_link_26
theorem kt_link_t {l : Launch} {s0 : State} {dC : Nat → ClassId} {dI : Nat → Nat → Nat} {ad : Nat → Nat → Nat} {aV : Nat → Nat} {cA : Nat → ClassId} {qo : Nat} (k : kH l s0 ad aV) (hqo : ¬ mw_A ad qo) {a0 : Array Value} (hca : kCa s0 a0) {u0 : Int32} {u1 : Int32} {x0 n0 : Nat} {h h' : mj_H} {f : Nat → Int64} (hh : mw_hv h) (hR : mj_R mg 1322 mq_18 (0, [(0, vR 2 0), (1, vI u0), (2, vI u1)], [], h) = some (.inr (x0, h'))) (hn : ([3, 2, 1] : List Nat)[n0]? = some x0) : Met l ky_link (kWs ky_link method_9_code 5 khs_link) kRm (kPc dC dI ad cA s0 qo [.ref (ad 2 0), .int u0, .int u1, .ref qo] h f) (kQc dC dI ad cA qo h' (fun r _ => r = nI (n0 + 1))) 1 6 (kAo ad qo) := by
  refine kMet (cc := method_9_code) (maxL := 5) (ret := some .int) (hs := khs_link) (by decide) List.mem_cons_self ?_
  intro p e s m args below meth c s₁ B hml htab hv
  obtain ⟨rfl, hP, hO, hK, hE⟩ := hv
  have hts := atoms_spec (ws := kWs ky_link method_9_code 5 khs_link) B.pre
  have hown : s.vm.findClass "LinkedCoresLaw" = some m.cls := findClass_of_methodNamed B.named
  have hlk := B.notSynchronized
  have hx := B.exec
  have hb := B.bytes
  have F : kFr dC dI cA p s0 s m _ c method_9_code 5 := ⟨hx, hb, hml, hown, fun w hw => hts w (List.mem_cons_of_mem _ hw), hK, hE.1⟩
  have hl := lv_entry ([.ref (ad 2 0), .int u0, .int u1, .ref qo]) (n := 5) (Nat.le_of_ble_eq_true rfl)
  rw [lg_entry_eq]
  generalize (lg_sl ([.ref (ad 2 0), .int u0, .int u1, .ref qo]) ++ List.replicate (5 - (lg_sl ([.ref (ad 2 0), .int u0, .int u1, .ref qo])).length) Slot.unset).toArray = ls at hl ⊢
  have hl : lv_has ls 5 [(0, .ref (ad 2 0)), (1, .int u0), (2, .int u1), (3, .ref qo)] := hl
  refine lv_aload_n (k := 3) hx hb kd_link_0 rfl (lv_at hl 3 rfl) ?_
  refine lv_iconst (v := 0) hx hb kd_link_1 rfl ?_
  refine lv_aload_n (k := 0) hx hb kd_link_2 rfl (lv_at hl 0 rfl) ?_
  refine lv_iload_n (k := 1) hx hb kd_link_3 rfl (lv_at hl 1 rfl) ?_
  refine lv_iload_n (k := 2) hx hb kd_link_4 rfl (lv_at hl 2 rfl) ?_
  have hn2 : n0 < 3 := (List.getElem?_eq_some_iff.mp hn).1
  have hn3 : n0 = 0 ∨ n0 = 1 ∨ n0 = 2 := by omega
  rcases hn3 with rfl | rfl | rfl
  · cases hn
    refine kw_t (as := [vI u0, vI u1]) (mj := 18) (pc := 5) (en := 10) (L := [(3, 13, 28), (2, 17, 35), (1, 21, 13)]) (n0 := 0) (y := (3, 13, 28)) (rest := [.int 0, .ref qo]) k hqo F B.returns hlk (by decide) rfl kca_link rfl hR (Nat.le_of_ble_eq_true rfl) (fun v hv => by simp at hv; rcases hv with rfl | rfl <;> trivial) hh rfl hl.1 hP hO hE hca (Nat.le_of_ble_eq_true rfl) kd_link_5 (by rw [htab]; rfl) (by decide) kcl_link (knd_of (by decide)) rfl rfl hl (fun x9 H1 locs1 hS1 hq => ?_)
    refine lv_astore (nL := 5) hx hb kd_link_13 hl (by decide) rfl (fun ls1 hl1 => ?_)
    refine lv_iconst (v := nI (0 + 1)) hx hb kd_link_15 rfl ?_
    exact W.iret (v := nI (0 + 1)) hx hb B.returns hq hS1.2.2 kd_link_16 hlk
  · cases hn
    refine kw_t (as := [vI u0, vI u1]) (mj := 18) (pc := 5) (en := 10) (L := [(3, 13, 28), (2, 17, 35), (1, 21, 13)]) (n0 := 1) (y := (2, 17, 35)) (rest := [.int 0, .ref qo]) k hqo F B.returns hlk (by decide) rfl kca_link rfl hR (Nat.le_of_ble_eq_true rfl) (fun v hv => by simp at hv; rcases hv with rfl | rfl <;> trivial) hh rfl hl.1 hP hO hE hca (Nat.le_of_ble_eq_true rfl) kd_link_5 (by rw [htab]; rfl) (by decide) kcl_link (knd_of (by decide)) rfl rfl hl (fun x9 H1 locs1 hS1 hq => ?_)
    refine lv_astore (nL := 5) hx hb kd_link_17 hl (by decide) rfl (fun ls1 hl1 => ?_)
    refine lv_iconst (v := nI (1 + 1)) hx hb kd_link_19 rfl ?_
    exact W.iret (v := nI (1 + 1)) hx hb B.returns hq hS1.2.2 kd_link_20 hlk
  · cases hn
    refine kw_t (as := [vI u0, vI u1]) (mj := 18) (pc := 5) (en := 10) (L := [(3, 13, 28), (2, 17, 35), (1, 21, 13)]) (n0 := 2) (y := (1, 21, 13)) (rest := [.int 0, .ref qo]) k hqo F B.returns hlk (by decide) rfl kca_link rfl hR (Nat.le_of_ble_eq_true rfl) (fun v hv => by simp at hv; rcases hv with rfl | rfl <;> trivial) hh rfl hl.1 hP hO hE hca (Nat.le_of_ble_eq_true rfl) kd_link_5 (by rw [htab]; rfl) (by decide) kcl_link (knd_of (by decide)) rfl rfl hl (fun x9 H1 locs1 hS1 hq => ?_)
    refine lv_astore (nL := 5) hx hb kd_link_21 hl (by decide) rfl (fun ls1 hl1 => ?_)
    refine lv_iconst (v := nI (2 + 1)) hx hb kd_link_23 rfl ?_
    exact W.iret (v := nI (2 + 1)) hx hb B.returns hq hS1.2.2 kd_link_24 hlk
theorem kd_begin_0 : decode method_10_code 0 = .ok (.aload_n 0, 1) := by decide +kernel
theorem kd_begin_1 : decode method_10_code 1 = .ok (.invokevirtual 44, 3) := by decide +kernel
theorem kd_begin_4 : decode method_10_code 4 = .ok (.goto 6, 3) := by decide +kernel
theorem kd_begin_7 : decode method_10_code 7 = .ok (.astore_n 1, 1) := by decide +kernel
theorem kd_begin_8 : decode method_10_code 8 = .ok (.iconst 1, 1) := by decide +kernel
theorem kd_begin_9 : decode method_10_code 9 = .ok (.ireturn, 1) := by decide +kernel
theorem kd_begin_10 : decode method_10_code 10 = .ok (.iconst 0, 1) := by decide +kernel
theorem kd_begin_11 : decode method_10_code 11 = .ok (.ireturn, 1) := by decide +kernel
def ky_begin : MethodName := ⟨"LinkedCoresLaw", "begin", "(LLinkedCores;)I"⟩
def khs_begin : List (Nat × Nat × Nat × Nat) := [(0, 4, 7, 28)]
theorem kca_begin : Cond.methodLink "LinkedCoresLaw" 44 (mw_y 19) ∈ mw_good := mw_good_of (mw_tm7 (List.mem_of_getElem? (i := 238) rfl)) rfl
theorem kcl_begin : ∀ q ∈ ([(3, 7, 28)] : List (Nat × Nat × Nat)), 0 < q.1 ∧ q.1 < 6 ∧ q.2.2 ≠ 0 ∧ Cond.classLink "LinkedCoresLaw" q.2.2 (mw_xn q.1) ∈ mw_good := List.forall_mem_cons.mpr ⟨⟨by decide, by decide, by decide, klk_3⟩, fun _ h => absurd h List.not_mem_nil⟩
theorem kt_begin_r {l : Launch} {s0 : State} {dC : Nat → ClassId} {dI : Nat → Nat → Nat} {ad : Nat → Nat → Nat} {aV : Nat → Nat} {cA : Nat → ClassId} {qo : Nat} (k : kH l s0 ad aV) (hqo : ¬ mw_A ad qo) {h h' : mj_H} {f : Nat → Int64} (hh : mw_hv h) (hR : mj_R mg 1322 mq_19 (0, [(0, vR 2 0)], [], h) = some (.inl (none, h'))) : Met l ky_begin (kWs ky_begin method_10_code 2 khs_begin) kRm (kPc dC dI ad cA s0 qo [.ref (ad 2 0)] h f) (kQc dC dI ad cA qo h' (fun r _ => r = 0)) 1 6 (kAo ad qo) := by
  refine kMet (cc := method_10_code) (maxL := 2) (ret := some .int) (hs := khs_begin) (by decide) List.mem_cons_self ?_
  intro p e s m args below meth c s₁ B hml htab hv
  obtain ⟨rfl, hP, hO, hK, hE⟩ := hv
  have hts := atoms_spec (ws := kWs ky_begin method_10_code 2 khs_begin) B.pre
  have hown : s.vm.findClass "LinkedCoresLaw" = some m.cls := findClass_of_methodNamed B.named
  have hlk := B.notSynchronized
  have hx := B.exec
  have hb := B.bytes
  have F : kFr dC dI cA p s0 s m _ c method_10_code 2 := ⟨hx, hb, hml, hown, fun w hw => hts w (List.mem_cons_of_mem _ hw), hK, hE.1⟩
  have hl := lv_entry ([.ref (ad 2 0)]) (n := 2) (Nat.le_of_ble_eq_true rfl)
  rw [lg_entry_eq]
  generalize (lg_sl ([.ref (ad 2 0)]) ++ List.replicate (2 - (lg_sl ([.ref (ad 2 0)])).length) Slot.unset).toArray = ls at hl ⊢
  have hl : lv_has ls 2 [(0, .ref (ad 2 0))] := hl
  refine lv_aload_n (k := 0) hx hb kd_begin_0 rfl (lv_at hl 0 rfl) ?_
  exact kw_v (as := []) (mj := 19) (pc := 1) (tgt := 10) k hqo F B.returns hlk (by decide) rfl kca_begin rfl hR (Nat.le_of_ble_eq_true rfl) (fun v hv => absurd hv List.not_mem_nil) hh rfl hl.1 hP hO hE kd_begin_1 kd_begin_4 rfl kd_begin_10 kd_begin_11
theorem kt_begin_t {l : Launch} {s0 : State} {dC : Nat → ClassId} {dI : Nat → Nat → Nat} {ad : Nat → Nat → Nat} {aV : Nat → Nat} {cA : Nat → ClassId} {qo : Nat} (k : kH l s0 ad aV) (hqo : ¬ mw_A ad qo) {a0 : Array Value} (hca : kCa s0 a0) {x0 n0 : Nat} {h h' : mj_H} {f : Nat → Int64} (hh : mw_hv h) (hR : mj_R mg 1322 mq_19 (0, [(0, vR 2 0)], [], h) = some (.inr (x0, h'))) (hn : ([3] : List Nat)[n0]? = some x0) : Met l ky_begin (kWs ky_begin method_10_code 2 khs_begin) kRm (kPc dC dI ad cA s0 qo [.ref (ad 2 0)] h f) (kQc dC dI ad cA qo h' (fun r _ => r = nI (n0 + 1))) 1 6 (kAo ad qo) := by
  refine kMet (cc := method_10_code) (maxL := 2) (ret := some .int) (hs := khs_begin) (by decide) List.mem_cons_self ?_
  intro p e s m args below meth c s₁ B hml htab hv
  obtain ⟨rfl, hP, hO, hK, hE⟩ := hv
  have hts := atoms_spec (ws := kWs ky_begin method_10_code 2 khs_begin) B.pre
  have hown : s.vm.findClass "LinkedCoresLaw" = some m.cls := findClass_of_methodNamed B.named
  have hlk := B.notSynchronized
  have hx := B.exec
  have hb := B.bytes
  have F : kFr dC dI cA p s0 s m _ c method_10_code 2 := ⟨hx, hb, hml, hown, fun w hw => hts w (List.mem_cons_of_mem _ hw), hK, hE.1⟩
  have hl := lv_entry ([.ref (ad 2 0)]) (n := 2) (Nat.le_of_ble_eq_true rfl)
  rw [lg_entry_eq]
  generalize (lg_sl ([.ref (ad 2 0)]) ++ List.replicate (2 - (lg_sl ([.ref (ad 2 0)])).length) Slot.unset).toArray = ls at hl ⊢
  have hl : lv_has ls 2 [(0, .ref (ad 2 0))] := hl
  refine lv_aload_n (k := 0) hx hb kd_begin_0 rfl (lv_at hl 0 rfl) ?_
  have hn2 : n0 < 1 := (List.getElem?_eq_some_iff.mp hn).1
  have hn3 : n0 = 0 := by omega
  subst hn3
  cases hn
  refine kw_t (as := []) (mj := 19) (pc := 1) (en := 4) (L := [(3, 7, 28)]) (n0 := 0) (y := (3, 7, 28)) (rest := []) k hqo F B.returns hlk (by decide) rfl kca_begin rfl hR (Nat.le_of_ble_eq_true rfl) (fun v hv => absurd hv List.not_mem_nil) hh rfl hl.1 hP hO hE hca (Nat.le_of_ble_eq_true rfl) kd_begin_1 (by rw [htab]; rfl) (by decide) kcl_begin (knd_of (by decide)) rfl rfl hl (fun x9 H1 locs1 hS1 hq => ?_)
  refine lv_astore_n (k := 1) (nL := 2) hx hb kd_begin_7 rfl hl (by decide) rfl (fun ls1 hl1 => ?_)
  refine lv_iconst (v := nI (0 + 1)) hx hb kd_begin_8 rfl ?_
  exact W.iret (v := nI (0 + 1)) hx hb B.returns hq hS1.2.2 kd_begin_9 hlk
theorem kd_input_0 : decode method_11_code 0 = .ok (.aload_n 2, 1) := by decide +kernel
theorem kd_input_1 : decode method_11_code 1 = .ok (.iconst 0, 1) := by decide +kernel
theorem kd_input_2 : decode method_11_code 2 = .ok (.aload_n 0, 1) := by decide +kernel
theorem kd_input_3 : decode method_11_code 3 = .ok (.iload_n 1, 1) := by decide +kernel
theorem kd_input_4 : decode method_11_code 4 = .ok (.invokevirtual 47, 3) := by decide +kernel
theorem kd_input_7 : decode method_11_code 7 = .ok (.i2l, 1) := by decide +kernel
theorem kd_input_8 : decode method_11_code 8 = .ok (.lastore, 1) := by decide +kernel
theorem kd_input_9 : decode method_11_code 9 = .ok (.goto 9, 3) := by decide +kernel
theorem kd_input_12 : decode method_11_code 12 = .ok (.astore_n 3, 1) := by decide +kernel
theorem kd_input_13 : decode method_11_code 13 = .ok (.iconst 1, 1) := by decide +kernel
theorem kd_input_14 : decode method_11_code 14 = .ok (.ireturn, 1) := by decide +kernel
theorem kd_input_15 : decode method_11_code 15 = .ok (.astore_n 3, 1) := by decide +kernel
theorem kd_input_16 : decode method_11_code 16 = .ok (.iconst 2, 1) := by decide +kernel
theorem kd_input_17 : decode method_11_code 17 = .ok (.ireturn, 1) := by decide +kernel
theorem kd_input_18 : decode method_11_code 18 = .ok (.iconst 0, 1) := by decide +kernel
theorem kd_input_19 : decode method_11_code 19 = .ok (.ireturn, 1) := by decide +kernel
def ky_input : MethodName := ⟨"LinkedCoresLaw", "input", "(LLinkedCores;I[J)I"⟩
def khs_input : List (Nat × Nat × Nat × Nat) := [(0, 9, 12, 28), (0, 9, 15, 15)]
theorem kca_input : Cond.methodLink "LinkedCoresLaw" 47 (mw_y 20) ∈ mw_good := mw_good_of (mw_tm8 (List.mem_of_getElem? (i := 2) rfl)) rfl
theorem kcl_input : ∀ q ∈ ([(3, 12, 28), (5, 15, 15)] : List (Nat × Nat × Nat)), 0 < q.1 ∧ q.1 < 6 ∧ q.2.2 ≠ 0 ∧ Cond.classLink "LinkedCoresLaw" q.2.2 (mw_xn q.1) ∈ mw_good := List.forall_mem_cons.mpr ⟨⟨by decide, by decide, by decide, klk_3⟩, List.forall_mem_cons.mpr ⟨⟨by decide, by decide, by decide, klk_5⟩, fun _ h => absurd h List.not_mem_nil⟩⟩
theorem kt_input_r {l : Launch} {s0 : State} {dC : Nat → ClassId} {dI : Nat → Nat → Nat} {ad : Nat → Nat → Nat} {aV : Nat → Nat} {cA : Nat → ClassId} {qo : Nat} (k : kH l s0 ad aV) (hqo : ¬ mw_A ad qo) {u0 : Int32} {v : Int32} {h h' : mj_H} {f : Nat → Int64} (hh : mw_hv h) (hR : mj_R mg 1322 mq_20 (0, [(0, vR 2 0), (1, vI u0)], [], h) = some (.inl (some (vI v), h'))) : Met l ky_input (kWs ky_input method_11_code 4 khs_input) kRm (kPc dC dI ad cA s0 qo [.ref (ad 2 0), .int u0, .ref qo] h f) (kQc dC dI ad cA qo h' (fun r f1 => r = 0 ∧ f1 0 = v.toInt64)) 1 6 (kAo ad qo) := by
  refine kMet (cc := method_11_code) (maxL := 4) (ret := some .int) (hs := khs_input) (by decide) List.mem_cons_self ?_
  intro p e s m args below meth c s₁ B hml htab hv
  obtain ⟨rfl, hP, hO, hK, hE⟩ := hv
  have hts := atoms_spec (ws := kWs ky_input method_11_code 4 khs_input) B.pre
  have hown : s.vm.findClass "LinkedCoresLaw" = some m.cls := findClass_of_methodNamed B.named
  have hlk := B.notSynchronized
  have hx := B.exec
  have hb := B.bytes
  have F : kFr dC dI cA p s0 s m _ c method_11_code 4 := ⟨hx, hb, hml, hown, fun w hw => hts w (List.mem_cons_of_mem _ hw), hK, hE.1⟩
  have hl := lv_entry ([.ref (ad 2 0), .int u0, .ref qo]) (n := 4) (Nat.le_of_ble_eq_true rfl)
  rw [lg_entry_eq]
  generalize (lg_sl ([.ref (ad 2 0), .int u0, .ref qo]) ++ List.replicate (4 - (lg_sl ([.ref (ad 2 0), .int u0, .ref qo])).length) Slot.unset).toArray = ls at hl ⊢
  have hl : lv_has ls 4 [(0, .ref (ad 2 0)), (1, .int u0), (2, .ref qo)] := hl
  refine lv_aload_n (k := 2) hx hb kd_input_0 rfl (lv_at hl 2 rfl) ?_
  refine lv_iconst (v := 0) hx hb kd_input_1 rfl ?_
  refine lv_aload_n (k := 0) hx hb kd_input_2 rfl (lv_at hl 0 rfl) ?_
  refine lv_iload_n (k := 1) hx hb kd_input_3 rfl (lv_at hl 1 rfl) ?_
  exact kw_r (as := [vI u0]) (mj := 20) (pc := 4) (tgt := 18) k hqo F B.returns hlk (by decide) rfl kca_input rfl hR (Nat.le_of_ble_eq_true rfl) (fun v hv => by simp at hv; subst hv; trivial) hh rfl hl.1 hP hO hE kd_input_4 kd_input_7 kd_input_8 kd_input_9 rfl kd_input_18 kd_input_19
theorem kt_input_t {l : Launch} {s0 : State} {dC : Nat → ClassId} {dI : Nat → Nat → Nat} {ad : Nat → Nat → Nat} {aV : Nat → Nat} {cA : Nat → ClassId} {qo : Nat} (k : kH l s0 ad aV) (hqo : ¬ mw_A ad qo) {a0 : Array Value} (hca : kCa s0 a0) {u0 : Int32} {x0 n0 : Nat} {h h' : mj_H} {f : Nat → Int64} (hh : mw_hv h) (hR : mj_R mg 1322 mq_20 (0, [(0, vR 2 0), (1, vI u0)], [], h) = some (.inr (x0, h'))) (hn : ([3, 5] : List Nat)[n0]? = some x0) : Met l ky_input (kWs ky_input method_11_code 4 khs_input) kRm (kPc dC dI ad cA s0 qo [.ref (ad 2 0), .int u0, .ref qo] h f) (kQc dC dI ad cA qo h' (fun r _ => r = nI (n0 + 1))) 1 6 (kAo ad qo) := by
  refine kMet (cc := method_11_code) (maxL := 4) (ret := some .int) (hs := khs_input) (by decide) List.mem_cons_self ?_
  intro p e s m args below meth c s₁ B hml htab hv
  obtain ⟨rfl, hP, hO, hK, hE⟩ := hv
  have hts := atoms_spec (ws := kWs ky_input method_11_code 4 khs_input) B.pre
  have hown : s.vm.findClass "LinkedCoresLaw" = some m.cls := findClass_of_methodNamed B.named
  have hlk := B.notSynchronized
  have hx := B.exec
  have hb := B.bytes
  have F : kFr dC dI cA p s0 s m _ c method_11_code 4 := ⟨hx, hb, hml, hown, fun w hw => hts w (List.mem_cons_of_mem _ hw), hK, hE.1⟩
  have hl := lv_entry ([.ref (ad 2 0), .int u0, .ref qo]) (n := 4) (Nat.le_of_ble_eq_true rfl)
  rw [lg_entry_eq]
  generalize (lg_sl ([.ref (ad 2 0), .int u0, .ref qo]) ++ List.replicate (4 - (lg_sl ([.ref (ad 2 0), .int u0, .ref qo])).length) Slot.unset).toArray = ls at hl ⊢
  have hl : lv_has ls 4 [(0, .ref (ad 2 0)), (1, .int u0), (2, .ref qo)] := hl
  refine lv_aload_n (k := 2) hx hb kd_input_0 rfl (lv_at hl 2 rfl) ?_
  refine lv_iconst (v := 0) hx hb kd_input_1 rfl ?_
  refine lv_aload_n (k := 0) hx hb kd_input_2 rfl (lv_at hl 0 rfl) ?_
  refine lv_iload_n (k := 1) hx hb kd_input_3 rfl (lv_at hl 1 rfl) ?_
  have hn2 : n0 < 2 := (List.getElem?_eq_some_iff.mp hn).1
  have hn3 : n0 = 0 ∨ n0 = 1 := by omega
  rcases hn3 with rfl | rfl
  · cases hn
    refine kw_t (as := [vI u0]) (mj := 20) (pc := 4) (en := 9) (L := [(3, 12, 28), (5, 15, 15)]) (n0 := 0) (y := (3, 12, 28)) (rest := [.int 0, .ref qo]) k hqo F B.returns hlk (by decide) rfl kca_input rfl hR (Nat.le_of_ble_eq_true rfl) (fun v hv => by simp at hv; subst hv; trivial) hh rfl hl.1 hP hO hE hca (Nat.le_of_ble_eq_true rfl) kd_input_4 (by rw [htab]; rfl) (by decide) kcl_input (knd_of (by decide)) rfl rfl hl (fun x9 H1 locs1 hS1 hq => ?_)
    refine lv_astore_n (k := 3) (nL := 4) hx hb kd_input_12 rfl hl (by decide) rfl (fun ls1 hl1 => ?_)
    refine lv_iconst (v := nI (0 + 1)) hx hb kd_input_13 rfl ?_
    exact W.iret (v := nI (0 + 1)) hx hb B.returns hq hS1.2.2 kd_input_14 hlk
  · cases hn
    refine kw_t (as := [vI u0]) (mj := 20) (pc := 4) (en := 9) (L := [(3, 12, 28), (5, 15, 15)]) (n0 := 1) (y := (5, 15, 15)) (rest := [.int 0, .ref qo]) k hqo F B.returns hlk (by decide) rfl kca_input rfl hR (Nat.le_of_ble_eq_true rfl) (fun v hv => by simp at hv; subst hv; trivial) hh rfl hl.1 hP hO hE hca (Nat.le_of_ble_eq_true rfl) kd_input_4 (by rw [htab]; rfl) (by decide) kcl_input (knd_of (by decide)) rfl rfl hl (fun x9 H1 locs1 hS1 hq => ?_)
    refine lv_astore_n (k := 3) (nL := 4) hx hb kd_input_15 rfl hl (by decide) rfl (fun ls1 hl1 => ?_)
    refine lv_iconst (v := nI (1 + 1)) hx hb kd_input_16 rfl ?_
    exact W.iret (v := nI (1 + 1)) hx hb B.returns hq hS1.2.2 kd_input_17 hlk
theorem kd_run_0 : decode method_12_code 0 = .ok (.aload_n 3, 1) := by decide +kernel
theorem kd_run_1 : decode method_12_code 1 = .ok (.iconst 0, 1) := by decide +kernel
theorem kd_run_2 : decode method_12_code 2 = .ok (.aload_n 0, 1) := by decide +kernel
theorem kd_run_3 : decode method_12_code 3 = .ok (.iload_n 1, 1) := by decide +kernel
theorem kd_run_4 : decode method_12_code 4 = .ok (.iload_n 2, 1) := by decide +kernel
theorem kd_run_5 : decode method_12_code 5 = .ok (.invokevirtual 50, 3) := by decide +kernel
theorem kd_run_8 : decode method_12_code 8 = .ok (.i2l, 1) := by decide +kernel
theorem kd_run_9 : decode method_12_code 9 = .ok (.lastore, 1) := by decide +kernel
theorem kd_run_10 : decode method_12_code 10 = .ok (.goto 15, 3) := by decide +kernel
theorem kd_run_13 : decode method_12_code 13 = .ok (.astore 4, 2) := by decide +kernel
theorem kd_run_15 : decode method_12_code 15 = .ok (.iconst 1, 1) := by decide +kernel
theorem kd_run_16 : decode method_12_code 16 = .ok (.ireturn, 1) := by decide +kernel
theorem kd_run_17 : decode method_12_code 17 = .ok (.astore 4, 2) := by decide +kernel
theorem kd_run_19 : decode method_12_code 19 = .ok (.iconst 2, 1) := by decide +kernel
theorem kd_run_20 : decode method_12_code 20 = .ok (.ireturn, 1) := by decide +kernel
theorem kd_run_21 : decode method_12_code 21 = .ok (.astore 4, 2) := by decide +kernel
theorem kd_run_23 : decode method_12_code 23 = .ok (.iconst 3, 1) := by decide +kernel
theorem kd_run_24 : decode method_12_code 24 = .ok (.ireturn, 1) := by decide +kernel
theorem kd_run_25 : decode method_12_code 25 = .ok (.iconst 0, 1) := by decide +kernel
theorem kd_run_26 : decode method_12_code 26 = .ok (.ireturn, 1) := by decide +kernel
def ky_run : MethodName := ⟨"LinkedCoresLaw", "run", "(LLinkedCores;II[J)I"⟩
def khs_run : List (Nat × Nat × Nat × Nat) := [(0, 10, 13, 28), (0, 10, 17, 30), (0, 10, 21, 13)]
theorem kca_run : Cond.methodLink "LinkedCoresLaw" 50 (mw_y 21) ∈ mw_good := mw_good_of (mw_tm8 (List.mem_of_getElem? (i := 41) rfl)) rfl
theorem kcl_run : ∀ q ∈ ([(3, 13, 28), (4, 17, 30), (1, 21, 13)] : List (Nat × Nat × Nat)), 0 < q.1 ∧ q.1 < 6 ∧ q.2.2 ≠ 0 ∧ Cond.classLink "LinkedCoresLaw" q.2.2 (mw_xn q.1) ∈ mw_good := List.forall_mem_cons.mpr ⟨⟨by decide, by decide, by decide, klk_3⟩, List.forall_mem_cons.mpr ⟨⟨by decide, by decide, by decide, klk_4⟩, List.forall_mem_cons.mpr ⟨⟨by decide, by decide, by decide, klk_1⟩, fun _ h => absurd h List.not_mem_nil⟩⟩⟩
theorem kt_run_r {l : Launch} {s0 : State} {dC : Nat → ClassId} {dI : Nat → Nat → Nat} {ad : Nat → Nat → Nat} {aV : Nat → Nat} {cA : Nat → ClassId} {qo : Nat} (k : kH l s0 ad aV) (hqo : ¬ mw_A ad qo) {u0 : Int32} {u1 : Int32} {v : Int32} {h h' : mj_H} {f : Nat → Int64} (hh : mw_hv h) (hR : mj_R mg 1322 mq_21 (0, [(0, vR 2 0), (1, vI u0), (2, vI u1)], [], h) = some (.inl (some (vI v), h'))) : Met l ky_run (kWs ky_run method_12_code 5 khs_run) kRm (kPc dC dI ad cA s0 qo [.ref (ad 2 0), .int u0, .int u1, .ref qo] h f) (kQc dC dI ad cA qo h' (fun r f1 => r = 0 ∧ f1 0 = v.toInt64)) 1 6 (kAo ad qo) := by
  refine kMet (cc := method_12_code) (maxL := 5) (ret := some .int) (hs := khs_run) (by decide) List.mem_cons_self ?_
  intro p e s m args below meth c s₁ B hml htab hv
  obtain ⟨rfl, hP, hO, hK, hE⟩ := hv
  have hts := atoms_spec (ws := kWs ky_run method_12_code 5 khs_run) B.pre
  have hown : s.vm.findClass "LinkedCoresLaw" = some m.cls := findClass_of_methodNamed B.named
  have hlk := B.notSynchronized
  have hx := B.exec
  have hb := B.bytes
  have F : kFr dC dI cA p s0 s m _ c method_12_code 5 := ⟨hx, hb, hml, hown, fun w hw => hts w (List.mem_cons_of_mem _ hw), hK, hE.1⟩
  have hl := lv_entry ([.ref (ad 2 0), .int u0, .int u1, .ref qo]) (n := 5) (Nat.le_of_ble_eq_true rfl)
  rw [lg_entry_eq]
  generalize (lg_sl ([.ref (ad 2 0), .int u0, .int u1, .ref qo]) ++ List.replicate (5 - (lg_sl ([.ref (ad 2 0), .int u0, .int u1, .ref qo])).length) Slot.unset).toArray = ls at hl ⊢
  have hl : lv_has ls 5 [(0, .ref (ad 2 0)), (1, .int u0), (2, .int u1), (3, .ref qo)] := hl
  refine lv_aload_n (k := 3) hx hb kd_run_0 rfl (lv_at hl 3 rfl) ?_
  refine lv_iconst (v := 0) hx hb kd_run_1 rfl ?_
  refine lv_aload_n (k := 0) hx hb kd_run_2 rfl (lv_at hl 0 rfl) ?_
  refine lv_iload_n (k := 1) hx hb kd_run_3 rfl (lv_at hl 1 rfl) ?_
  refine lv_iload_n (k := 2) hx hb kd_run_4 rfl (lv_at hl 2 rfl) ?_
  exact kw_r (as := [vI u0, vI u1]) (mj := 21) (pc := 5) (tgt := 25) k hqo F B.returns hlk (by decide) rfl kca_run rfl hR (Nat.le_of_ble_eq_true rfl) (fun v hv => by simp at hv; rcases hv with rfl | rfl <;> trivial) hh rfl hl.1 hP hO hE kd_run_5 kd_run_8 kd_run_9 kd_run_10 rfl kd_run_25 kd_run_26
theorem kt_run_t {l : Launch} {s0 : State} {dC : Nat → ClassId} {dI : Nat → Nat → Nat} {ad : Nat → Nat → Nat} {aV : Nat → Nat} {cA : Nat → ClassId} {qo : Nat} (k : kH l s0 ad aV) (hqo : ¬ mw_A ad qo) {a0 : Array Value} (hca : kCa s0 a0) {u0 : Int32} {u1 : Int32} {x0 n0 : Nat} {h h' : mj_H} {f : Nat → Int64} (hh : mw_hv h) (hR : mj_R mg 1322 mq_21 (0, [(0, vR 2 0), (1, vI u0), (2, vI u1)], [], h) = some (.inr (x0, h'))) (hn : ([3, 4, 1] : List Nat)[n0]? = some x0) : Met l ky_run (kWs ky_run method_12_code 5 khs_run) kRm (kPc dC dI ad cA s0 qo [.ref (ad 2 0), .int u0, .int u1, .ref qo] h f) (kQc dC dI ad cA qo h' (fun r _ => r = nI (n0 + 1))) 1 6 (kAo ad qo) := by
  refine kMet (cc := method_12_code) (maxL := 5) (ret := some .int) (hs := khs_run) (by decide) List.mem_cons_self ?_
  intro p e s m args below meth c s₁ B hml htab hv
  obtain ⟨rfl, hP, hO, hK, hE⟩ := hv
  have hts := atoms_spec (ws := kWs ky_run method_12_code 5 khs_run) B.pre
  have hown : s.vm.findClass "LinkedCoresLaw" = some m.cls := findClass_of_methodNamed B.named
  have hlk := B.notSynchronized
  have hx := B.exec
  have hb := B.bytes
  have F : kFr dC dI cA p s0 s m _ c method_12_code 5 := ⟨hx, hb, hml, hown, fun w hw => hts w (List.mem_cons_of_mem _ hw), hK, hE.1⟩
  have hl := lv_entry ([.ref (ad 2 0), .int u0, .int u1, .ref qo]) (n := 5) (Nat.le_of_ble_eq_true rfl)
  rw [lg_entry_eq]
  generalize (lg_sl ([.ref (ad 2 0), .int u0, .int u1, .ref qo]) ++ List.replicate (5 - (lg_sl ([.ref (ad 2 0), .int u0, .int u1, .ref qo])).length) Slot.unset).toArray = ls at hl ⊢
  have hl : lv_has ls 5 [(0, .ref (ad 2 0)), (1, .int u0), (2, .int u1), (3, .ref qo)] := hl
  refine lv_aload_n (k := 3) hx hb kd_run_0 rfl (lv_at hl 3 rfl) ?_
  refine lv_iconst (v := 0) hx hb kd_run_1 rfl ?_
  refine lv_aload_n (k := 0) hx hb kd_run_2 rfl (lv_at hl 0 rfl) ?_
  refine lv_iload_n (k := 1) hx hb kd_run_3 rfl (lv_at hl 1 rfl) ?_
  refine lv_iload_n (k := 2) hx hb kd_run_4 rfl (lv_at hl 2 rfl) ?_
  have hn2 : n0 < 3 := (List.getElem?_eq_some_iff.mp hn).1
  have hn3 : n0 = 0 ∨ n0 = 1 ∨ n0 = 2 := by omega
  rcases hn3 with rfl | rfl | rfl
  · cases hn
    refine kw_t (as := [vI u0, vI u1]) (mj := 21) (pc := 5) (en := 10) (L := [(3, 13, 28), (4, 17, 30), (1, 21, 13)]) (n0 := 0) (y := (3, 13, 28)) (rest := [.int 0, .ref qo]) k hqo F B.returns hlk (by decide) rfl kca_run rfl hR (Nat.le_of_ble_eq_true rfl) (fun v hv => by simp at hv; rcases hv with rfl | rfl <;> trivial) hh rfl hl.1 hP hO hE hca (Nat.le_of_ble_eq_true rfl) kd_run_5 (by rw [htab]; rfl) (by decide) kcl_run (knd_of (by decide)) rfl rfl hl (fun x9 H1 locs1 hS1 hq => ?_)
    refine lv_astore (nL := 5) hx hb kd_run_13 hl (by decide) rfl (fun ls1 hl1 => ?_)
    refine lv_iconst (v := nI (0 + 1)) hx hb kd_run_15 rfl ?_
    exact W.iret (v := nI (0 + 1)) hx hb B.returns hq hS1.2.2 kd_run_16 hlk
  · cases hn
    refine kw_t (as := [vI u0, vI u1]) (mj := 21) (pc := 5) (en := 10) (L := [(3, 13, 28), (4, 17, 30), (1, 21, 13)]) (n0 := 1) (y := (4, 17, 30)) (rest := [.int 0, .ref qo]) k hqo F B.returns hlk (by decide) rfl kca_run rfl hR (Nat.le_of_ble_eq_true rfl) (fun v hv => by simp at hv; rcases hv with rfl | rfl <;> trivial) hh rfl hl.1 hP hO hE hca (Nat.le_of_ble_eq_true rfl) kd_run_5 (by rw [htab]; rfl) (by decide) kcl_run (knd_of (by decide)) rfl rfl hl (fun x9 H1 locs1 hS1 hq => ?_)
    refine lv_astore (nL := 5) hx hb kd_run_17 hl (by decide) rfl (fun ls1 hl1 => ?_)
    refine lv_iconst (v := nI (1 + 1)) hx hb kd_run_19 rfl ?_
    exact W.iret (v := nI (1 + 1)) hx hb B.returns hq hS1.2.2 kd_run_20 hlk
  · cases hn
    refine kw_t (as := [vI u0, vI u1]) (mj := 21) (pc := 5) (en := 10) (L := [(3, 13, 28), (4, 17, 30), (1, 21, 13)]) (n0 := 2) (y := (1, 21, 13)) (rest := [.int 0, .ref qo]) k hqo F B.returns hlk (by decide) rfl kca_run rfl hR (Nat.le_of_ble_eq_true rfl) (fun v hv => by simp at hv; rcases hv with rfl | rfl <;> trivial) hh rfl hl.1 hP hO hE hca (Nat.le_of_ble_eq_true rfl) kd_run_5 (by rw [htab]; rfl) (by decide) kcl_run (knd_of (by decide)) rfl rfl hl (fun x9 H1 locs1 hS1 hq => ?_)
    refine lv_astore (nL := 5) hx hb kd_run_21 hl (by decide) rfl (fun ls1 hl1 => ?_)
    refine lv_iconst (v := nI (2 + 1)) hx hb kd_run_23 rfl ?_
    exact W.iret (v := nI (2 + 1)) hx hb B.returns hq hS1.2.2 kd_run_24 hlk
theorem kd_beat_0 : decode method_13_code 0 = .ok (.aload_n 2, 1) := by decide +kernel
theorem kd_beat_1 : decode method_13_code 1 = .ok (.iconst 0, 1) := by decide +kernel
theorem kd_beat_2 : decode method_13_code 2 = .ok (.aload_n 0, 1) := by decide +kernel
theorem kd_beat_3 : decode method_13_code 3 = .ok (.iload_n 1, 1) := by decide +kernel
theorem kd_beat_4 : decode method_13_code 4 = .ok (.invokevirtual 53, 3) := by decide +kernel
theorem kd_beat_7 : decode method_13_code 7 = .ok (.i2l, 1) := by decide +kernel
theorem kd_beat_8 : decode method_13_code 8 = .ok (.lastore, 1) := by decide +kernel
theorem kd_beat_9 : decode method_13_code 9 = .ok (.goto 9, 3) := by decide +kernel
theorem kd_beat_12 : decode method_13_code 12 = .ok (.astore_n 3, 1) := by decide +kernel
theorem kd_beat_13 : decode method_13_code 13 = .ok (.iconst 1, 1) := by decide +kernel
theorem kd_beat_14 : decode method_13_code 14 = .ok (.ireturn, 1) := by decide +kernel
theorem kd_beat_15 : decode method_13_code 15 = .ok (.astore_n 3, 1) := by decide +kernel
theorem kd_beat_16 : decode method_13_code 16 = .ok (.iconst 2, 1) := by decide +kernel
theorem kd_beat_17 : decode method_13_code 17 = .ok (.ireturn, 1) := by decide +kernel
theorem kd_beat_18 : decode method_13_code 18 = .ok (.iconst 0, 1) := by decide +kernel
theorem kd_beat_19 : decode method_13_code 19 = .ok (.ireturn, 1) := by decide +kernel
def ky_beat : MethodName := ⟨"LinkedCoresLaw", "beat", "(LLinkedCores;I[J)I"⟩
def khs_beat : List (Nat × Nat × Nat × Nat) := [(0, 9, 12, 28), (0, 9, 15, 13)]
theorem kca_beat : Cond.methodLink "LinkedCoresLaw" 53 (mw_y 24) ∈ mw_good := mw_good_of (mw_tm8 (List.mem_of_getElem? (i := 139) rfl)) rfl
theorem kcl_beat : ∀ q ∈ ([(3, 12, 28), (1, 15, 13)] : List (Nat × Nat × Nat)), 0 < q.1 ∧ q.1 < 6 ∧ q.2.2 ≠ 0 ∧ Cond.classLink "LinkedCoresLaw" q.2.2 (mw_xn q.1) ∈ mw_good := List.forall_mem_cons.mpr ⟨⟨by decide, by decide, by decide, klk_3⟩, List.forall_mem_cons.mpr ⟨⟨by decide, by decide, by decide, klk_1⟩, fun _ h => absurd h List.not_mem_nil⟩⟩
theorem kt_beat_r {l : Launch} {s0 : State} {dC : Nat → ClassId} {dI : Nat → Nat → Nat} {ad : Nat → Nat → Nat} {aV : Nat → Nat} {cA : Nat → ClassId} {qo : Nat} (k : kH l s0 ad aV) (hqo : ¬ mw_A ad qo) {u0 : Int32} {v : Int32} {h h' : mj_H} {f : Nat → Int64} (hh : mw_hv h) (hR : mj_R mg 1322 mq_24 (0, [(0, vR 2 0), (1, vI u0)], [], h) = some (.inl (some (vI v), h'))) : Met l ky_beat (kWs ky_beat method_13_code 4 khs_beat) kRm (kPc dC dI ad cA s0 qo [.ref (ad 2 0), .int u0, .ref qo] h f) (kQc dC dI ad cA qo h' (fun r f1 => r = 0 ∧ f1 0 = v.toInt64)) 1 6 (kAo ad qo) := by
  refine kMet (cc := method_13_code) (maxL := 4) (ret := some .int) (hs := khs_beat) (by decide) List.mem_cons_self ?_
  intro p e s m args below meth c s₁ B hml htab hv
  obtain ⟨rfl, hP, hO, hK, hE⟩ := hv
  have hts := atoms_spec (ws := kWs ky_beat method_13_code 4 khs_beat) B.pre
  have hown : s.vm.findClass "LinkedCoresLaw" = some m.cls := findClass_of_methodNamed B.named
  have hlk := B.notSynchronized
  have hx := B.exec
  have hb := B.bytes
  have F : kFr dC dI cA p s0 s m _ c method_13_code 4 := ⟨hx, hb, hml, hown, fun w hw => hts w (List.mem_cons_of_mem _ hw), hK, hE.1⟩
  have hl := lv_entry ([.ref (ad 2 0), .int u0, .ref qo]) (n := 4) (Nat.le_of_ble_eq_true rfl)
  rw [lg_entry_eq]
  generalize (lg_sl ([.ref (ad 2 0), .int u0, .ref qo]) ++ List.replicate (4 - (lg_sl ([.ref (ad 2 0), .int u0, .ref qo])).length) Slot.unset).toArray = ls at hl ⊢
  have hl : lv_has ls 4 [(0, .ref (ad 2 0)), (1, .int u0), (2, .ref qo)] := hl
  refine lv_aload_n (k := 2) hx hb kd_beat_0 rfl (lv_at hl 2 rfl) ?_
  refine lv_iconst (v := 0) hx hb kd_beat_1 rfl ?_
  refine lv_aload_n (k := 0) hx hb kd_beat_2 rfl (lv_at hl 0 rfl) ?_
  refine lv_iload_n (k := 1) hx hb kd_beat_3 rfl (lv_at hl 1 rfl) ?_
  exact kw_r (as := [vI u0]) (mj := 24) (pc := 4) (tgt := 18) k hqo F B.returns hlk (by decide) rfl kca_beat rfl hR (Nat.le_of_ble_eq_true rfl) (fun v hv => by simp at hv; subst hv; trivial) hh rfl hl.1 hP hO hE kd_beat_4 kd_beat_7 kd_beat_8 kd_beat_9 rfl kd_beat_18 kd_beat_19
theorem kt_beat_t {l : Launch} {s0 : State} {dC : Nat → ClassId} {dI : Nat → Nat → Nat} {ad : Nat → Nat → Nat} {aV : Nat → Nat} {cA : Nat → ClassId} {qo : Nat} (k : kH l s0 ad aV) (hqo : ¬ mw_A ad qo) {a0 : Array Value} (hca : kCa s0 a0) {u0 : Int32} {x0 n0 : Nat} {h h' : mj_H} {f : Nat → Int64} (hh : mw_hv h) (hR : mj_R mg 1322 mq_24 (0, [(0, vR 2 0), (1, vI u0)], [], h) = some (.inr (x0, h'))) (hn : ([3, 1] : List Nat)[n0]? = some x0) : Met l ky_beat (kWs ky_beat method_13_code 4 khs_beat) kRm (kPc dC dI ad cA s0 qo [.ref (ad 2 0), .int u0, .ref qo] h f) (kQc dC dI ad cA qo h' (fun r _ => r = nI (n0 + 1))) 1 6 (kAo ad qo) := by
  refine kMet (cc := method_13_code) (maxL := 4) (ret := some .int) (hs := khs_beat) (by decide) List.mem_cons_self ?_
  intro p e s m args below meth c s₁ B hml htab hv
  obtain ⟨rfl, hP, hO, hK, hE⟩ := hv
  have hts := atoms_spec (ws := kWs ky_beat method_13_code 4 khs_beat) B.pre
  have hown : s.vm.findClass "LinkedCoresLaw" = some m.cls := findClass_of_methodNamed B.named
  have hlk := B.notSynchronized
  have hx := B.exec
  have hb := B.bytes
  have F : kFr dC dI cA p s0 s m _ c method_13_code 4 := ⟨hx, hb, hml, hown, fun w hw => hts w (List.mem_cons_of_mem _ hw), hK, hE.1⟩
  have hl := lv_entry ([.ref (ad 2 0), .int u0, .ref qo]) (n := 4) (Nat.le_of_ble_eq_true rfl)
  rw [lg_entry_eq]
  generalize (lg_sl ([.ref (ad 2 0), .int u0, .ref qo]) ++ List.replicate (4 - (lg_sl ([.ref (ad 2 0), .int u0, .ref qo])).length) Slot.unset).toArray = ls at hl ⊢
  have hl : lv_has ls 4 [(0, .ref (ad 2 0)), (1, .int u0), (2, .ref qo)] := hl
  refine lv_aload_n (k := 2) hx hb kd_beat_0 rfl (lv_at hl 2 rfl) ?_
  refine lv_iconst (v := 0) hx hb kd_beat_1 rfl ?_
  refine lv_aload_n (k := 0) hx hb kd_beat_2 rfl (lv_at hl 0 rfl) ?_
  refine lv_iload_n (k := 1) hx hb kd_beat_3 rfl (lv_at hl 1 rfl) ?_
  have hn2 : n0 < 2 := (List.getElem?_eq_some_iff.mp hn).1
  have hn3 : n0 = 0 ∨ n0 = 1 := by omega
  rcases hn3 with rfl | rfl
  · cases hn
    refine kw_t (as := [vI u0]) (mj := 24) (pc := 4) (en := 9) (L := [(3, 12, 28), (1, 15, 13)]) (n0 := 0) (y := (3, 12, 28)) (rest := [.int 0, .ref qo]) k hqo F B.returns hlk (by decide) rfl kca_beat rfl hR (Nat.le_of_ble_eq_true rfl) (fun v hv => by simp at hv; subst hv; trivial) hh rfl hl.1 hP hO hE hca (Nat.le_of_ble_eq_true rfl) kd_beat_4 (by rw [htab]; rfl) (by decide) kcl_beat (knd_of (by decide)) rfl rfl hl (fun x9 H1 locs1 hS1 hq => ?_)
    refine lv_astore_n (k := 3) (nL := 4) hx hb kd_beat_12 rfl hl (by decide) rfl (fun ls1 hl1 => ?_)
    refine lv_iconst (v := nI (0 + 1)) hx hb kd_beat_13 rfl ?_
    exact W.iret (v := nI (0 + 1)) hx hb B.returns hq hS1.2.2 kd_beat_14 hlk
  · cases hn
    refine kw_t (as := [vI u0]) (mj := 24) (pc := 4) (en := 9) (L := [(3, 12, 28), (1, 15, 13)]) (n0 := 1) (y := (1, 15, 13)) (rest := [.int 0, .ref qo]) k hqo F B.returns hlk (by decide) rfl kca_beat rfl hR (Nat.le_of_ble_eq_true rfl) (fun v hv => by simp at hv; subst hv; trivial) hh rfl hl.1 hP hO hE hca (Nat.le_of_ble_eq_true rfl) kd_beat_4 (by rw [htab]; rfl) (by decide) kcl_beat (knd_of (by decide)) rfl rfl hl (fun x9 H1 locs1 hS1 hq => ?_)
    refine lv_astore_n (k := 3) (nL := 4) hx hb kd_beat_15 rfl hl (by decide) rfl (fun ls1 hl1 => ?_)
    refine lv_iconst (v := nI (1 + 1)) hx hb kd_beat_16 rfl ?_
    exact W.iret (v := nI (1 + 1)) hx hb B.returns hq hS1.2.2 kd_beat_17 hlk
theorem kd_rounds_0 : decode method_14_code 0 = .ok (.aload_n 2, 1) := by decide +kernel
theorem kd_rounds_1 : decode method_14_code 1 = .ok (.iconst 0, 1) := by decide +kernel
theorem kd_rounds_2 : decode method_14_code 2 = .ok (.aload_n 0, 1) := by decide +kernel
theorem kd_rounds_3 : decode method_14_code 3 = .ok (.iload_n 1, 1) := by decide +kernel
theorem kd_rounds_4 : decode method_14_code 4 = .ok (.invokevirtual 56, 3) := by decide +kernel
theorem kd_rounds_7 : decode method_14_code 7 = .ok (.i2l, 1) := by decide +kernel
theorem kd_rounds_8 : decode method_14_code 8 = .ok (.lastore, 1) := by decide +kernel
theorem kd_rounds_9 : decode method_14_code 9 = .ok (.goto 9, 3) := by decide +kernel
theorem kd_rounds_12 : decode method_14_code 12 = .ok (.astore_n 3, 1) := by decide +kernel
theorem kd_rounds_13 : decode method_14_code 13 = .ok (.iconst 1, 1) := by decide +kernel
theorem kd_rounds_14 : decode method_14_code 14 = .ok (.ireturn, 1) := by decide +kernel
theorem kd_rounds_15 : decode method_14_code 15 = .ok (.astore_n 3, 1) := by decide +kernel
theorem kd_rounds_16 : decode method_14_code 16 = .ok (.iconst 2, 1) := by decide +kernel
theorem kd_rounds_17 : decode method_14_code 17 = .ok (.ireturn, 1) := by decide +kernel
theorem kd_rounds_18 : decode method_14_code 18 = .ok (.iconst 0, 1) := by decide +kernel
theorem kd_rounds_19 : decode method_14_code 19 = .ok (.ireturn, 1) := by decide +kernel
def ky_rounds : MethodName := ⟨"LinkedCoresLaw", "rounds", "(LLinkedCores;I[J)I"⟩
def khs_rounds : List (Nat × Nat × Nat × Nat) := [(0, 9, 12, 28), (0, 9, 15, 13)]
theorem kca_rounds : Cond.methodLink "LinkedCoresLaw" 56 (mw_y 25) ∈ mw_good := mw_good_of (mw_tm8 (List.mem_of_getElem? (i := 162) rfl)) rfl
theorem kcl_rounds : ∀ q ∈ ([(3, 12, 28), (1, 15, 13)] : List (Nat × Nat × Nat)), 0 < q.1 ∧ q.1 < 6 ∧ q.2.2 ≠ 0 ∧ Cond.classLink "LinkedCoresLaw" q.2.2 (mw_xn q.1) ∈ mw_good := List.forall_mem_cons.mpr ⟨⟨by decide, by decide, by decide, klk_3⟩, List.forall_mem_cons.mpr ⟨⟨by decide, by decide, by decide, klk_1⟩, fun _ h => absurd h List.not_mem_nil⟩⟩
theorem kt_rounds_r {l : Launch} {s0 : State} {dC : Nat → ClassId} {dI : Nat → Nat → Nat} {ad : Nat → Nat → Nat} {aV : Nat → Nat} {cA : Nat → ClassId} {qo : Nat} (k : kH l s0 ad aV) (hqo : ¬ mw_A ad qo) {u0 : Int32} {v : Int32} {h h' : mj_H} {f : Nat → Int64} (hh : mw_hv h) (hR : mj_R mg 1322 mq_25 (0, [(0, vR 2 0), (1, vI u0)], [], h) = some (.inl (some (vI v), h'))) : Met l ky_rounds (kWs ky_rounds method_14_code 4 khs_rounds) kRm (kPc dC dI ad cA s0 qo [.ref (ad 2 0), .int u0, .ref qo] h f) (kQc dC dI ad cA qo h' (fun r f1 => r = 0 ∧ f1 0 = v.toInt64)) 1 6 (kAo ad qo) := by
  refine kMet (cc := method_14_code) (maxL := 4) (ret := some .int) (hs := khs_rounds) (by decide) List.mem_cons_self ?_
  intro p e s m args below meth c s₁ B hml htab hv
  obtain ⟨rfl, hP, hO, hK, hE⟩ := hv
  have hts := atoms_spec (ws := kWs ky_rounds method_14_code 4 khs_rounds) B.pre
  have hown : s.vm.findClass "LinkedCoresLaw" = some m.cls := findClass_of_methodNamed B.named
  have hlk := B.notSynchronized
  have hx := B.exec
  have hb := B.bytes
  have F : kFr dC dI cA p s0 s m _ c method_14_code 4 := ⟨hx, hb, hml, hown, fun w hw => hts w (List.mem_cons_of_mem _ hw), hK, hE.1⟩
  have hl := lv_entry ([.ref (ad 2 0), .int u0, .ref qo]) (n := 4) (Nat.le_of_ble_eq_true rfl)
  rw [lg_entry_eq]
  generalize (lg_sl ([.ref (ad 2 0), .int u0, .ref qo]) ++ List.replicate (4 - (lg_sl ([.ref (ad 2 0), .int u0, .ref qo])).length) Slot.unset).toArray = ls at hl ⊢
  have hl : lv_has ls 4 [(0, .ref (ad 2 0)), (1, .int u0), (2, .ref qo)] := hl
  refine lv_aload_n (k := 2) hx hb kd_rounds_0 rfl (lv_at hl 2 rfl) ?_
  refine lv_iconst (v := 0) hx hb kd_rounds_1 rfl ?_
  refine lv_aload_n (k := 0) hx hb kd_rounds_2 rfl (lv_at hl 0 rfl) ?_
  refine lv_iload_n (k := 1) hx hb kd_rounds_3 rfl (lv_at hl 1 rfl) ?_
  exact kw_r (as := [vI u0]) (mj := 25) (pc := 4) (tgt := 18) k hqo F B.returns hlk (by decide) rfl kca_rounds rfl hR (Nat.le_of_ble_eq_true rfl) (fun v hv => by simp at hv; subst hv; trivial) hh rfl hl.1 hP hO hE kd_rounds_4 kd_rounds_7 kd_rounds_8 kd_rounds_9 rfl kd_rounds_18 kd_rounds_19
theorem kt_rounds_t {l : Launch} {s0 : State} {dC : Nat → ClassId} {dI : Nat → Nat → Nat} {ad : Nat → Nat → Nat} {aV : Nat → Nat} {cA : Nat → ClassId} {qo : Nat} (k : kH l s0 ad aV) (hqo : ¬ mw_A ad qo) {a0 : Array Value} (hca : kCa s0 a0) {u0 : Int32} {x0 n0 : Nat} {h h' : mj_H} {f : Nat → Int64} (hh : mw_hv h) (hR : mj_R mg 1322 mq_25 (0, [(0, vR 2 0), (1, vI u0)], [], h) = some (.inr (x0, h'))) (hn : ([3, 1] : List Nat)[n0]? = some x0) : Met l ky_rounds (kWs ky_rounds method_14_code 4 khs_rounds) kRm (kPc dC dI ad cA s0 qo [.ref (ad 2 0), .int u0, .ref qo] h f) (kQc dC dI ad cA qo h' (fun r _ => r = nI (n0 + 1))) 1 6 (kAo ad qo) := by
  refine kMet (cc := method_14_code) (maxL := 4) (ret := some .int) (hs := khs_rounds) (by decide) List.mem_cons_self ?_
  intro p e s m args below meth c s₁ B hml htab hv
  obtain ⟨rfl, hP, hO, hK, hE⟩ := hv
  have hts := atoms_spec (ws := kWs ky_rounds method_14_code 4 khs_rounds) B.pre
  have hown : s.vm.findClass "LinkedCoresLaw" = some m.cls := findClass_of_methodNamed B.named
  have hlk := B.notSynchronized
  have hx := B.exec
  have hb := B.bytes
  have F : kFr dC dI cA p s0 s m _ c method_14_code 4 := ⟨hx, hb, hml, hown, fun w hw => hts w (List.mem_cons_of_mem _ hw), hK, hE.1⟩
  have hl := lv_entry ([.ref (ad 2 0), .int u0, .ref qo]) (n := 4) (Nat.le_of_ble_eq_true rfl)
  rw [lg_entry_eq]
  generalize (lg_sl ([.ref (ad 2 0), .int u0, .ref qo]) ++ List.replicate (4 - (lg_sl ([.ref (ad 2 0), .int u0, .ref qo])).length) Slot.unset).toArray = ls at hl ⊢
  have hl : lv_has ls 4 [(0, .ref (ad 2 0)), (1, .int u0), (2, .ref qo)] := hl
  refine lv_aload_n (k := 2) hx hb kd_rounds_0 rfl (lv_at hl 2 rfl) ?_
  refine lv_iconst (v := 0) hx hb kd_rounds_1 rfl ?_
  refine lv_aload_n (k := 0) hx hb kd_rounds_2 rfl (lv_at hl 0 rfl) ?_
  refine lv_iload_n (k := 1) hx hb kd_rounds_3 rfl (lv_at hl 1 rfl) ?_
  have hn2 : n0 < 2 := (List.getElem?_eq_some_iff.mp hn).1
  have hn3 : n0 = 0 ∨ n0 = 1 := by omega
  rcases hn3 with rfl | rfl
  · cases hn
    refine kw_t (as := [vI u0]) (mj := 25) (pc := 4) (en := 9) (L := [(3, 12, 28), (1, 15, 13)]) (n0 := 0) (y := (3, 12, 28)) (rest := [.int 0, .ref qo]) k hqo F B.returns hlk (by decide) rfl kca_rounds rfl hR (Nat.le_of_ble_eq_true rfl) (fun v hv => by simp at hv; subst hv; trivial) hh rfl hl.1 hP hO hE hca (Nat.le_of_ble_eq_true rfl) kd_rounds_4 (by rw [htab]; rfl) (by decide) kcl_rounds (knd_of (by decide)) rfl rfl hl (fun x9 H1 locs1 hS1 hq => ?_)
    refine lv_astore_n (k := 3) (nL := 4) hx hb kd_rounds_12 rfl hl (by decide) rfl (fun ls1 hl1 => ?_)
    refine lv_iconst (v := nI (0 + 1)) hx hb kd_rounds_13 rfl ?_
    exact W.iret (v := nI (0 + 1)) hx hb B.returns hq hS1.2.2 kd_rounds_14 hlk
  · cases hn
    refine kw_t (as := [vI u0]) (mj := 25) (pc := 4) (en := 9) (L := [(3, 12, 28), (1, 15, 13)]) (n0 := 1) (y := (1, 15, 13)) (rest := [.int 0, .ref qo]) k hqo F B.returns hlk (by decide) rfl kca_rounds rfl hR (Nat.le_of_ble_eq_true rfl) (fun v hv => by simp at hv; subst hv; trivial) hh rfl hl.1 hP hO hE hca (Nat.le_of_ble_eq_true rfl) kd_rounds_4 (by rw [htab]; rfl) (by decide) kcl_rounds (knd_of (by decide)) rfl rfl hl (fun x9 H1 locs1 hS1 hq => ?_)
    refine lv_astore_n (k := 3) (nL := 4) hx hb kd_rounds_15 rfl hl (by decide) rfl (fun ls1 hl1 => ?_)
    refine lv_iconst (v := nI (1 + 1)) hx hb kd_rounds_16 rfl ?_
    exact W.iret (v := nI (1 + 1)) hx hb B.returns hq hS1.2.2 kd_rounds_17 hlk
theorem kd_outcome_0 : decode method_15_code 0 = .ok (.aload_n 1, 1) := by decide +kernel
theorem kd_outcome_1 : decode method_15_code 1 = .ok (.iconst 0, 1) := by decide +kernel
theorem kd_outcome_2 : decode method_15_code 2 = .ok (.aload_n 0, 1) := by decide +kernel
theorem kd_outcome_3 : decode method_15_code 3 = .ok (.invokevirtual 59, 3) := by decide +kernel
theorem kd_outcome_6 : decode method_15_code 6 = .ok (.i2l, 1) := by decide +kernel
theorem kd_outcome_7 : decode method_15_code 7 = .ok (.lastore, 1) := by decide +kernel
theorem kd_outcome_8 : decode method_15_code 8 = .ok (.goto 6, 3) := by decide +kernel
theorem kd_outcome_11 : decode method_15_code 11 = .ok (.astore_n 2, 1) := by decide +kernel
theorem kd_outcome_12 : decode method_15_code 12 = .ok (.iconst 1, 1) := by decide +kernel
theorem kd_outcome_13 : decode method_15_code 13 = .ok (.ireturn, 1) := by decide +kernel
theorem kd_outcome_14 : decode method_15_code 14 = .ok (.iconst 0, 1) := by decide +kernel
theorem kd_outcome_15 : decode method_15_code 15 = .ok (.ireturn, 1) := by decide +kernel
def ky_outcome : MethodName := ⟨"LinkedCoresLaw", "outcome", "(LLinkedCores;[J)I"⟩
def khs_outcome : List (Nat × Nat × Nat × Nat) := [(0, 8, 11, 28)]
theorem kca_outcome : Cond.methodLink "LinkedCoresLaw" 59 (mw_y 26) ∈ mw_good := mw_good_of (mw_tm8 (List.mem_of_getElem? (i := 173) rfl)) rfl
theorem kcl_outcome : ∀ q ∈ ([(3, 11, 28)] : List (Nat × Nat × Nat)), 0 < q.1 ∧ q.1 < 6 ∧ q.2.2 ≠ 0 ∧ Cond.classLink "LinkedCoresLaw" q.2.2 (mw_xn q.1) ∈ mw_good := List.forall_mem_cons.mpr ⟨⟨by decide, by decide, by decide, klk_3⟩, fun _ h => absurd h List.not_mem_nil⟩
theorem kt_outcome_r {l : Launch} {s0 : State} {dC : Nat → ClassId} {dI : Nat → Nat → Nat} {ad : Nat → Nat → Nat} {aV : Nat → Nat} {cA : Nat → ClassId} {qo : Nat} (k : kH l s0 ad aV) (hqo : ¬ mw_A ad qo) {v : Int32} {h h' : mj_H} {f : Nat → Int64} (hh : mw_hv h) (hR : mj_R mg 1322 mq_26 (0, [(0, vR 2 0)], [], h) = some (.inl (some (vI v), h'))) : Met l ky_outcome (kWs ky_outcome method_15_code 3 khs_outcome) kRm (kPc dC dI ad cA s0 qo [.ref (ad 2 0), .ref qo] h f) (kQc dC dI ad cA qo h' (fun r f1 => r = 0 ∧ f1 0 = v.toInt64)) 1 6 (kAo ad qo) := by
  refine kMet (cc := method_15_code) (maxL := 3) (ret := some .int) (hs := khs_outcome) (by decide) List.mem_cons_self ?_
  intro p e s m args below meth c s₁ B hml htab hv
  obtain ⟨rfl, hP, hO, hK, hE⟩ := hv
  have hts := atoms_spec (ws := kWs ky_outcome method_15_code 3 khs_outcome) B.pre
  have hown : s.vm.findClass "LinkedCoresLaw" = some m.cls := findClass_of_methodNamed B.named
  have hlk := B.notSynchronized
  have hx := B.exec
  have hb := B.bytes
  have F : kFr dC dI cA p s0 s m _ c method_15_code 3 := ⟨hx, hb, hml, hown, fun w hw => hts w (List.mem_cons_of_mem _ hw), hK, hE.1⟩
  have hl := lv_entry ([.ref (ad 2 0), .ref qo]) (n := 3) (Nat.le_of_ble_eq_true rfl)
  rw [lg_entry_eq]
  generalize (lg_sl ([.ref (ad 2 0), .ref qo]) ++ List.replicate (3 - (lg_sl ([.ref (ad 2 0), .ref qo])).length) Slot.unset).toArray = ls at hl ⊢
  have hl : lv_has ls 3 [(0, .ref (ad 2 0)), (1, .ref qo)] := hl
  refine lv_aload_n (k := 1) hx hb kd_outcome_0 rfl (lv_at hl 1 rfl) ?_
  refine lv_iconst (v := 0) hx hb kd_outcome_1 rfl ?_
  refine lv_aload_n (k := 0) hx hb kd_outcome_2 rfl (lv_at hl 0 rfl) ?_
  exact kw_r (as := []) (mj := 26) (pc := 3) (tgt := 14) k hqo F B.returns hlk (by decide) rfl kca_outcome rfl hR (Nat.le_of_ble_eq_true rfl) (fun v hv => absurd hv List.not_mem_nil) hh rfl hl.1 hP hO hE kd_outcome_3 kd_outcome_6 kd_outcome_7 kd_outcome_8 rfl kd_outcome_14 kd_outcome_15
theorem kt_outcome_t {l : Launch} {s0 : State} {dC : Nat → ClassId} {dI : Nat → Nat → Nat} {ad : Nat → Nat → Nat} {aV : Nat → Nat} {cA : Nat → ClassId} {qo : Nat} (k : kH l s0 ad aV) (hqo : ¬ mw_A ad qo) {a0 : Array Value} (hca : kCa s0 a0) {x0 n0 : Nat} {h h' : mj_H} {f : Nat → Int64} (hh : mw_hv h) (hR : mj_R mg 1322 mq_26 (0, [(0, vR 2 0)], [], h) = some (.inr (x0, h'))) (hn : ([3] : List Nat)[n0]? = some x0) : Met l ky_outcome (kWs ky_outcome method_15_code 3 khs_outcome) kRm (kPc dC dI ad cA s0 qo [.ref (ad 2 0), .ref qo] h f) (kQc dC dI ad cA qo h' (fun r _ => r = nI (n0 + 1))) 1 6 (kAo ad qo) := by
  refine kMet (cc := method_15_code) (maxL := 3) (ret := some .int) (hs := khs_outcome) (by decide) List.mem_cons_self ?_
  intro p e s m args below meth c s₁ B hml htab hv
  obtain ⟨rfl, hP, hO, hK, hE⟩ := hv
  have hts := atoms_spec (ws := kWs ky_outcome method_15_code 3 khs_outcome) B.pre
  have hown : s.vm.findClass "LinkedCoresLaw" = some m.cls := findClass_of_methodNamed B.named
  have hlk := B.notSynchronized
  have hx := B.exec
  have hb := B.bytes
  have F : kFr dC dI cA p s0 s m _ c method_15_code 3 := ⟨hx, hb, hml, hown, fun w hw => hts w (List.mem_cons_of_mem _ hw), hK, hE.1⟩
  have hl := lv_entry ([.ref (ad 2 0), .ref qo]) (n := 3) (Nat.le_of_ble_eq_true rfl)
  rw [lg_entry_eq]
  generalize (lg_sl ([.ref (ad 2 0), .ref qo]) ++ List.replicate (3 - (lg_sl ([.ref (ad 2 0), .ref qo])).length) Slot.unset).toArray = ls at hl ⊢
  have hl : lv_has ls 3 [(0, .ref (ad 2 0)), (1, .ref qo)] := hl
  refine lv_aload_n (k := 1) hx hb kd_outcome_0 rfl (lv_at hl 1 rfl) ?_
  refine lv_iconst (v := 0) hx hb kd_outcome_1 rfl ?_
  refine lv_aload_n (k := 0) hx hb kd_outcome_2 rfl (lv_at hl 0 rfl) ?_
  have hn2 : n0 < 1 := (List.getElem?_eq_some_iff.mp hn).1
  have hn3 : n0 = 0 := by omega
  subst hn3
  cases hn
  refine kw_t (as := []) (mj := 26) (pc := 3) (en := 8) (L := [(3, 11, 28)]) (n0 := 0) (y := (3, 11, 28)) (rest := [.int 0, .ref qo]) k hqo F B.returns hlk (by decide) rfl kca_outcome rfl hR (Nat.le_of_ble_eq_true rfl) (fun v hv => absurd hv List.not_mem_nil) hh rfl hl.1 hP hO hE hca (Nat.le_of_ble_eq_true rfl) kd_outcome_3 (by rw [htab]; rfl) (by decide) kcl_outcome (knd_of (by decide)) rfl rfl hl (fun x9 H1 locs1 hS1 hq => ?_)
  refine lv_astore_n (k := 2) (nL := 3) hx hb kd_outcome_11 rfl hl (by decide) rfl (fun ls1 hl1 => ?_)
  refine lv_iconst (v := nI (0 + 1)) hx hb kd_outcome_12 rfl ?_
  exact W.iret (v := nI (0 + 1)) hx hb B.returns hq hS1.2.2 kd_outcome_13 hlk
theorem kd_core_0 : decode method_16_code 0 = .ok (.aload_n 3, 1) := by decide +kernel
theorem kd_core_1 : decode method_16_code 1 = .ok (.iconst 0, 1) := by decide +kernel
theorem kd_core_2 : decode method_16_code 2 = .ok (.aload_n 0, 1) := by decide +kernel
theorem kd_core_3 : decode method_16_code 3 = .ok (.iload_n 1, 1) := by decide +kernel
theorem kd_core_4 : decode method_16_code 4 = .ok (.iload_n 2, 1) := by decide +kernel
theorem kd_core_5 : decode method_16_code 5 = .ok (.invokevirtual 63, 3) := by decide +kernel
theorem kd_core_8 : decode method_16_code 8 = .ok (.i2l, 1) := by decide +kernel
theorem kd_core_9 : decode method_16_code 9 = .ok (.lastore, 1) := by decide +kernel
theorem kd_core_10 : decode method_16_code 10 = .ok (.goto 15, 3) := by decide +kernel
theorem kd_core_13 : decode method_16_code 13 = .ok (.astore 4, 2) := by decide +kernel
theorem kd_core_15 : decode method_16_code 15 = .ok (.iconst 1, 1) := by decide +kernel
theorem kd_core_16 : decode method_16_code 16 = .ok (.ireturn, 1) := by decide +kernel
theorem kd_core_17 : decode method_16_code 17 = .ok (.astore 4, 2) := by decide +kernel
theorem kd_core_19 : decode method_16_code 19 = .ok (.iconst 2, 1) := by decide +kernel
theorem kd_core_20 : decode method_16_code 20 = .ok (.ireturn, 1) := by decide +kernel
theorem kd_core_21 : decode method_16_code 21 = .ok (.astore 4, 2) := by decide +kernel
theorem kd_core_23 : decode method_16_code 23 = .ok (.iconst 3, 1) := by decide +kernel
theorem kd_core_24 : decode method_16_code 24 = .ok (.ireturn, 1) := by decide +kernel
theorem kd_core_25 : decode method_16_code 25 = .ok (.iconst 0, 1) := by decide +kernel
theorem kd_core_26 : decode method_16_code 26 = .ok (.ireturn, 1) := by decide +kernel
def ky_core : MethodName := ⟨"LinkedCoresLaw", "core", "(LLinkedCores;II[J)I"⟩
def khs_core : List (Nat × Nat × Nat × Nat) := [(0, 10, 13, 28), (0, 10, 17, 30), (0, 10, 21, 13)]
theorem kca_core : Cond.methodLink "LinkedCoresLaw" 63 (mw_y 27) ∈ mw_good := mw_good_of (mw_tm8 (List.mem_of_getElem? (i := 177) rfl)) rfl
theorem kcl_core : ∀ q ∈ ([(3, 13, 28), (4, 17, 30), (1, 21, 13)] : List (Nat × Nat × Nat)), 0 < q.1 ∧ q.1 < 6 ∧ q.2.2 ≠ 0 ∧ Cond.classLink "LinkedCoresLaw" q.2.2 (mw_xn q.1) ∈ mw_good := List.forall_mem_cons.mpr ⟨⟨by decide, by decide, by decide, klk_3⟩, List.forall_mem_cons.mpr ⟨⟨by decide, by decide, by decide, klk_4⟩, List.forall_mem_cons.mpr ⟨⟨by decide, by decide, by decide, klk_1⟩, fun _ h => absurd h List.not_mem_nil⟩⟩⟩
theorem kt_core_r {l : Launch} {s0 : State} {dC : Nat → ClassId} {dI : Nat → Nat → Nat} {ad : Nat → Nat → Nat} {aV : Nat → Nat} {cA : Nat → ClassId} {qo : Nat} (k : kH l s0 ad aV) (hqo : ¬ mw_A ad qo) {u0 : Int32} {u1 : Int32} {v : Int32} {h h' : mj_H} {f : Nat → Int64} (hh : mw_hv h) (hR : mj_R mg 1322 mq_27 (0, [(0, vR 2 0), (1, vI u0), (2, vI u1)], [], h) = some (.inl (some (vI v), h'))) : Met l ky_core (kWs ky_core method_16_code 5 khs_core) kRm (kPc dC dI ad cA s0 qo [.ref (ad 2 0), .int u0, .int u1, .ref qo] h f) (kQc dC dI ad cA qo h' (fun r f1 => r = 0 ∧ f1 0 = v.toInt64)) 1 6 (kAo ad qo) := by
  refine kMet (cc := method_16_code) (maxL := 5) (ret := some .int) (hs := khs_core) (by decide) List.mem_cons_self ?_
  intro p e s m args below meth c s₁ B hml htab hv
  obtain ⟨rfl, hP, hO, hK, hE⟩ := hv
  have hts := atoms_spec (ws := kWs ky_core method_16_code 5 khs_core) B.pre
  have hown : s.vm.findClass "LinkedCoresLaw" = some m.cls := findClass_of_methodNamed B.named
  have hlk := B.notSynchronized
  have hx := B.exec
  have hb := B.bytes
  have F : kFr dC dI cA p s0 s m _ c method_16_code 5 := ⟨hx, hb, hml, hown, fun w hw => hts w (List.mem_cons_of_mem _ hw), hK, hE.1⟩
  have hl := lv_entry ([.ref (ad 2 0), .int u0, .int u1, .ref qo]) (n := 5) (Nat.le_of_ble_eq_true rfl)
  rw [lg_entry_eq]
  generalize (lg_sl ([.ref (ad 2 0), .int u0, .int u1, .ref qo]) ++ List.replicate (5 - (lg_sl ([.ref (ad 2 0), .int u0, .int u1, .ref qo])).length) Slot.unset).toArray = ls at hl ⊢
  have hl : lv_has ls 5 [(0, .ref (ad 2 0)), (1, .int u0), (2, .int u1), (3, .ref qo)] := hl
  refine lv_aload_n (k := 3) hx hb kd_core_0 rfl (lv_at hl 3 rfl) ?_
  refine lv_iconst (v := 0) hx hb kd_core_1 rfl ?_
  refine lv_aload_n (k := 0) hx hb kd_core_2 rfl (lv_at hl 0 rfl) ?_
  refine lv_iload_n (k := 1) hx hb kd_core_3 rfl (lv_at hl 1 rfl) ?_
  refine lv_iload_n (k := 2) hx hb kd_core_4 rfl (lv_at hl 2 rfl) ?_
  exact kw_r (as := [vI u0, vI u1]) (mj := 27) (pc := 5) (tgt := 25) k hqo F B.returns hlk (by decide) rfl kca_core rfl hR (Nat.le_of_ble_eq_true rfl) (fun v hv => by simp at hv; rcases hv with rfl | rfl <;> trivial) hh rfl hl.1 hP hO hE kd_core_5 kd_core_8 kd_core_9 kd_core_10 rfl kd_core_25 kd_core_26
theorem kt_core_t {l : Launch} {s0 : State} {dC : Nat → ClassId} {dI : Nat → Nat → Nat} {ad : Nat → Nat → Nat} {aV : Nat → Nat} {cA : Nat → ClassId} {qo : Nat} (k : kH l s0 ad aV) (hqo : ¬ mw_A ad qo) {a0 : Array Value} (hca : kCa s0 a0) {u0 : Int32} {u1 : Int32} {x0 n0 : Nat} {h h' : mj_H} {f : Nat → Int64} (hh : mw_hv h) (hR : mj_R mg 1322 mq_27 (0, [(0, vR 2 0), (1, vI u0), (2, vI u1)], [], h) = some (.inr (x0, h'))) (hn : ([3, 4, 1] : List Nat)[n0]? = some x0) : Met l ky_core (kWs ky_core method_16_code 5 khs_core) kRm (kPc dC dI ad cA s0 qo [.ref (ad 2 0), .int u0, .int u1, .ref qo] h f) (kQc dC dI ad cA qo h' (fun r _ => r = nI (n0 + 1))) 1 6 (kAo ad qo) := by
  refine kMet (cc := method_16_code) (maxL := 5) (ret := some .int) (hs := khs_core) (by decide) List.mem_cons_self ?_
  intro p e s m args below meth c s₁ B hml htab hv
  obtain ⟨rfl, hP, hO, hK, hE⟩ := hv
  have hts := atoms_spec (ws := kWs ky_core method_16_code 5 khs_core) B.pre
  have hown : s.vm.findClass "LinkedCoresLaw" = some m.cls := findClass_of_methodNamed B.named
  have hlk := B.notSynchronized
  have hx := B.exec
  have hb := B.bytes
  have F : kFr dC dI cA p s0 s m _ c method_16_code 5 := ⟨hx, hb, hml, hown, fun w hw => hts w (List.mem_cons_of_mem _ hw), hK, hE.1⟩
  have hl := lv_entry ([.ref (ad 2 0), .int u0, .int u1, .ref qo]) (n := 5) (Nat.le_of_ble_eq_true rfl)
  rw [lg_entry_eq]
  generalize (lg_sl ([.ref (ad 2 0), .int u0, .int u1, .ref qo]) ++ List.replicate (5 - (lg_sl ([.ref (ad 2 0), .int u0, .int u1, .ref qo])).length) Slot.unset).toArray = ls at hl ⊢
  have hl : lv_has ls 5 [(0, .ref (ad 2 0)), (1, .int u0), (2, .int u1), (3, .ref qo)] := hl
  refine lv_aload_n (k := 3) hx hb kd_core_0 rfl (lv_at hl 3 rfl) ?_
  refine lv_iconst (v := 0) hx hb kd_core_1 rfl ?_
  refine lv_aload_n (k := 0) hx hb kd_core_2 rfl (lv_at hl 0 rfl) ?_
  refine lv_iload_n (k := 1) hx hb kd_core_3 rfl (lv_at hl 1 rfl) ?_
  refine lv_iload_n (k := 2) hx hb kd_core_4 rfl (lv_at hl 2 rfl) ?_
  have hn2 : n0 < 3 := (List.getElem?_eq_some_iff.mp hn).1
  have hn3 : n0 = 0 ∨ n0 = 1 ∨ n0 = 2 := by omega
  rcases hn3 with rfl | rfl | rfl
  · cases hn
    refine kw_t (as := [vI u0, vI u1]) (mj := 27) (pc := 5) (en := 10) (L := [(3, 13, 28), (4, 17, 30), (1, 21, 13)]) (n0 := 0) (y := (3, 13, 28)) (rest := [.int 0, .ref qo]) k hqo F B.returns hlk (by decide) rfl kca_core rfl hR (Nat.le_of_ble_eq_true rfl) (fun v hv => by simp at hv; rcases hv with rfl | rfl <;> trivial) hh rfl hl.1 hP hO hE hca (Nat.le_of_ble_eq_true rfl) kd_core_5 (by rw [htab]; rfl) (by decide) kcl_core (knd_of (by decide)) rfl rfl hl (fun x9 H1 locs1 hS1 hq => ?_)
    refine lv_astore (nL := 5) hx hb kd_core_13 hl (by decide) rfl (fun ls1 hl1 => ?_)
    refine lv_iconst (v := nI (0 + 1)) hx hb kd_core_15 rfl ?_
    exact W.iret (v := nI (0 + 1)) hx hb B.returns hq hS1.2.2 kd_core_16 hlk
  · cases hn
    refine kw_t (as := [vI u0, vI u1]) (mj := 27) (pc := 5) (en := 10) (L := [(3, 13, 28), (4, 17, 30), (1, 21, 13)]) (n0 := 1) (y := (4, 17, 30)) (rest := [.int 0, .ref qo]) k hqo F B.returns hlk (by decide) rfl kca_core rfl hR (Nat.le_of_ble_eq_true rfl) (fun v hv => by simp at hv; rcases hv with rfl | rfl <;> trivial) hh rfl hl.1 hP hO hE hca (Nat.le_of_ble_eq_true rfl) kd_core_5 (by rw [htab]; rfl) (by decide) kcl_core (knd_of (by decide)) rfl rfl hl (fun x9 H1 locs1 hS1 hq => ?_)
    refine lv_astore (nL := 5) hx hb kd_core_17 hl (by decide) rfl (fun ls1 hl1 => ?_)
    refine lv_iconst (v := nI (1 + 1)) hx hb kd_core_19 rfl ?_
    exact W.iret (v := nI (1 + 1)) hx hb B.returns hq hS1.2.2 kd_core_20 hlk
  · cases hn
    refine kw_t (as := [vI u0, vI u1]) (mj := 27) (pc := 5) (en := 10) (L := [(3, 13, 28), (4, 17, 30), (1, 21, 13)]) (n0 := 2) (y := (1, 21, 13)) (rest := [.int 0, .ref qo]) k hqo F B.returns hlk (by decide) rfl kca_core rfl hR (Nat.le_of_ble_eq_true rfl) (fun v hv => by simp at hv; rcases hv with rfl | rfl <;> trivial) hh rfl hl.1 hP hO hE hca (Nat.le_of_ble_eq_true rfl) kd_core_5 (by rw [htab]; rfl) (by decide) kcl_core (knd_of (by decide)) rfl rfl hl (fun x9 H1 locs1 hS1 hq => ?_)
    refine lv_astore (nL := 5) hx hb kd_core_21 hl (by decide) rfl (fun ls1 hl1 => ?_)
    refine lv_iconst (v := nI (2 + 1)) hx hb kd_core_23 rfl ?_
    exact W.iret (v := nI (2 + 1)) hx hb B.returns hq hS1.2.2 kd_core_24 hlk
theorem kd_ready_0 : decode method_17_code 0 = .ok (.aload_n 3, 1) := by decide +kernel
theorem kd_ready_1 : decode method_17_code 1 = .ok (.iconst 0, 1) := by decide +kernel
theorem kd_ready_2 : decode method_17_code 2 = .ok (.aload_n 0, 1) := by decide +kernel
theorem kd_ready_3 : decode method_17_code 3 = .ok (.iload_n 1, 1) := by decide +kernel
theorem kd_ready_4 : decode method_17_code 4 = .ok (.iload_n 2, 1) := by decide +kernel
theorem kd_ready_5 : decode method_17_code 5 = .ok (.invokevirtual 66, 3) := by decide +kernel
theorem kd_ready_8 : decode method_17_code 8 = .ok (.i2l, 1) := by decide +kernel
theorem kd_ready_9 : decode method_17_code 9 = .ok (.lastore, 1) := by decide +kernel
theorem kd_ready_10 : decode method_17_code 10 = .ok (.goto 15, 3) := by decide +kernel
theorem kd_ready_13 : decode method_17_code 13 = .ok (.astore 4, 2) := by decide +kernel
theorem kd_ready_15 : decode method_17_code 15 = .ok (.iconst 1, 1) := by decide +kernel
theorem kd_ready_16 : decode method_17_code 16 = .ok (.ireturn, 1) := by decide +kernel
theorem kd_ready_17 : decode method_17_code 17 = .ok (.astore 4, 2) := by decide +kernel
theorem kd_ready_19 : decode method_17_code 19 = .ok (.iconst 2, 1) := by decide +kernel
theorem kd_ready_20 : decode method_17_code 20 = .ok (.ireturn, 1) := by decide +kernel
theorem kd_ready_21 : decode method_17_code 21 = .ok (.astore 4, 2) := by decide +kernel
theorem kd_ready_23 : decode method_17_code 23 = .ok (.iconst 3, 1) := by decide +kernel
theorem kd_ready_24 : decode method_17_code 24 = .ok (.ireturn, 1) := by decide +kernel
theorem kd_ready_25 : decode method_17_code 25 = .ok (.iconst 0, 1) := by decide +kernel
theorem kd_ready_26 : decode method_17_code 26 = .ok (.ireturn, 1) := by decide +kernel
def ky_ready : MethodName := ⟨"LinkedCoresLaw", "ready", "(LLinkedCores;II[J)I"⟩
def khs_ready : List (Nat × Nat × Nat × Nat) := [(0, 10, 13, 28), (0, 10, 17, 30), (0, 10, 21, 35)]
theorem kca_ready : Cond.methodLink "LinkedCoresLaw" 66 (mw_y 29) ∈ mw_good := mw_good_of (mw_tm8 (List.mem_of_getElem? (i := 189) rfl)) rfl
theorem kcl_ready : ∀ q ∈ ([(3, 13, 28), (4, 17, 30), (2, 21, 35)] : List (Nat × Nat × Nat)), 0 < q.1 ∧ q.1 < 6 ∧ q.2.2 ≠ 0 ∧ Cond.classLink "LinkedCoresLaw" q.2.2 (mw_xn q.1) ∈ mw_good := List.forall_mem_cons.mpr ⟨⟨by decide, by decide, by decide, klk_3⟩, List.forall_mem_cons.mpr ⟨⟨by decide, by decide, by decide, klk_4⟩, List.forall_mem_cons.mpr ⟨⟨by decide, by decide, by decide, klk_2⟩, fun _ h => absurd h List.not_mem_nil⟩⟩⟩
theorem kt_ready_r {l : Launch} {s0 : State} {dC : Nat → ClassId} {dI : Nat → Nat → Nat} {ad : Nat → Nat → Nat} {aV : Nat → Nat} {cA : Nat → ClassId} {qo : Nat} (k : kH l s0 ad aV) (hqo : ¬ mw_A ad qo) {u0 : Int32} {u1 : Int32} {v : Int32} {h h' : mj_H} {f : Nat → Int64} (hh : mw_hv h) (hR : mj_R mg 1322 mq_29 (0, [(0, vR 2 0), (1, vI u0), (2, vI u1)], [], h) = some (.inl (some (vI v), h'))) : Met l ky_ready (kWs ky_ready method_17_code 5 khs_ready) kRm (kPc dC dI ad cA s0 qo [.ref (ad 2 0), .int u0, .int u1, .ref qo] h f) (kQc dC dI ad cA qo h' (fun r f1 => r = 0 ∧ f1 0 = v.toInt64)) 1 6 (kAo ad qo) := by
  refine kMet (cc := method_17_code) (maxL := 5) (ret := some .int) (hs := khs_ready) (by decide) List.mem_cons_self ?_
  intro p e s m args below meth c s₁ B hml htab hv
  obtain ⟨rfl, hP, hO, hK, hE⟩ := hv
  have hts := atoms_spec (ws := kWs ky_ready method_17_code 5 khs_ready) B.pre
  have hown : s.vm.findClass "LinkedCoresLaw" = some m.cls := findClass_of_methodNamed B.named
  have hlk := B.notSynchronized
  have hx := B.exec
  have hb := B.bytes
  have F : kFr dC dI cA p s0 s m _ c method_17_code 5 := ⟨hx, hb, hml, hown, fun w hw => hts w (List.mem_cons_of_mem _ hw), hK, hE.1⟩
  have hl := lv_entry ([.ref (ad 2 0), .int u0, .int u1, .ref qo]) (n := 5) (Nat.le_of_ble_eq_true rfl)
  rw [lg_entry_eq]
  generalize (lg_sl ([.ref (ad 2 0), .int u0, .int u1, .ref qo]) ++ List.replicate (5 - (lg_sl ([.ref (ad 2 0), .int u0, .int u1, .ref qo])).length) Slot.unset).toArray = ls at hl ⊢
  have hl : lv_has ls 5 [(0, .ref (ad 2 0)), (1, .int u0), (2, .int u1), (3, .ref qo)] := hl
  refine lv_aload_n (k := 3) hx hb kd_ready_0 rfl (lv_at hl 3 rfl) ?_
  refine lv_iconst (v := 0) hx hb kd_ready_1 rfl ?_
  refine lv_aload_n (k := 0) hx hb kd_ready_2 rfl (lv_at hl 0 rfl) ?_
  refine lv_iload_n (k := 1) hx hb kd_ready_3 rfl (lv_at hl 1 rfl) ?_
  refine lv_iload_n (k := 2) hx hb kd_ready_4 rfl (lv_at hl 2 rfl) ?_
  exact kw_r (as := [vI u0, vI u1]) (mj := 29) (pc := 5) (tgt := 25) k hqo F B.returns hlk (by decide) rfl kca_ready rfl hR (Nat.le_of_ble_eq_true rfl) (fun v hv => by simp at hv; rcases hv with rfl | rfl <;> trivial) hh rfl hl.1 hP hO hE kd_ready_5 kd_ready_8 kd_ready_9 kd_ready_10 rfl kd_ready_25 kd_ready_26
theorem kt_ready_t {l : Launch} {s0 : State} {dC : Nat → ClassId} {dI : Nat → Nat → Nat} {ad : Nat → Nat → Nat} {aV : Nat → Nat} {cA : Nat → ClassId} {qo : Nat} (k : kH l s0 ad aV) (hqo : ¬ mw_A ad qo) {a0 : Array Value} (hca : kCa s0 a0) {u0 : Int32} {u1 : Int32} {x0 n0 : Nat} {h h' : mj_H} {f : Nat → Int64} (hh : mw_hv h) (hR : mj_R mg 1322 mq_29 (0, [(0, vR 2 0), (1, vI u0), (2, vI u1)], [], h) = some (.inr (x0, h'))) (hn : ([3, 4, 2] : List Nat)[n0]? = some x0) : Met l ky_ready (kWs ky_ready method_17_code 5 khs_ready) kRm (kPc dC dI ad cA s0 qo [.ref (ad 2 0), .int u0, .int u1, .ref qo] h f) (kQc dC dI ad cA qo h' (fun r _ => r = nI (n0 + 1))) 1 6 (kAo ad qo) := by
  refine kMet (cc := method_17_code) (maxL := 5) (ret := some .int) (hs := khs_ready) (by decide) List.mem_cons_self ?_
  intro p e s m args below meth c s₁ B hml htab hv
  obtain ⟨rfl, hP, hO, hK, hE⟩ := hv
  have hts := atoms_spec (ws := kWs ky_ready method_17_code 5 khs_ready) B.pre
  have hown : s.vm.findClass "LinkedCoresLaw" = some m.cls := findClass_of_methodNamed B.named
  have hlk := B.notSynchronized
  have hx := B.exec
  have hb := B.bytes
  have F : kFr dC dI cA p s0 s m _ c method_17_code 5 := ⟨hx, hb, hml, hown, fun w hw => hts w (List.mem_cons_of_mem _ hw), hK, hE.1⟩
  have hl := lv_entry ([.ref (ad 2 0), .int u0, .int u1, .ref qo]) (n := 5) (Nat.le_of_ble_eq_true rfl)
  rw [lg_entry_eq]
  generalize (lg_sl ([.ref (ad 2 0), .int u0, .int u1, .ref qo]) ++ List.replicate (5 - (lg_sl ([.ref (ad 2 0), .int u0, .int u1, .ref qo])).length) Slot.unset).toArray = ls at hl ⊢
  have hl : lv_has ls 5 [(0, .ref (ad 2 0)), (1, .int u0), (2, .int u1), (3, .ref qo)] := hl
  refine lv_aload_n (k := 3) hx hb kd_ready_0 rfl (lv_at hl 3 rfl) ?_
  refine lv_iconst (v := 0) hx hb kd_ready_1 rfl ?_
  refine lv_aload_n (k := 0) hx hb kd_ready_2 rfl (lv_at hl 0 rfl) ?_
  refine lv_iload_n (k := 1) hx hb kd_ready_3 rfl (lv_at hl 1 rfl) ?_
  refine lv_iload_n (k := 2) hx hb kd_ready_4 rfl (lv_at hl 2 rfl) ?_
  have hn2 : n0 < 3 := (List.getElem?_eq_some_iff.mp hn).1
  have hn3 : n0 = 0 ∨ n0 = 1 ∨ n0 = 2 := by omega
  rcases hn3 with rfl | rfl | rfl
  · cases hn
    refine kw_t (as := [vI u0, vI u1]) (mj := 29) (pc := 5) (en := 10) (L := [(3, 13, 28), (4, 17, 30), (2, 21, 35)]) (n0 := 0) (y := (3, 13, 28)) (rest := [.int 0, .ref qo]) k hqo F B.returns hlk (by decide) rfl kca_ready rfl hR (Nat.le_of_ble_eq_true rfl) (fun v hv => by simp at hv; rcases hv with rfl | rfl <;> trivial) hh rfl hl.1 hP hO hE hca (Nat.le_of_ble_eq_true rfl) kd_ready_5 (by rw [htab]; rfl) (by decide) kcl_ready (knd_of (by decide)) rfl rfl hl (fun x9 H1 locs1 hS1 hq => ?_)
    refine lv_astore (nL := 5) hx hb kd_ready_13 hl (by decide) rfl (fun ls1 hl1 => ?_)
    refine lv_iconst (v := nI (0 + 1)) hx hb kd_ready_15 rfl ?_
    exact W.iret (v := nI (0 + 1)) hx hb B.returns hq hS1.2.2 kd_ready_16 hlk
  · cases hn
    refine kw_t (as := [vI u0, vI u1]) (mj := 29) (pc := 5) (en := 10) (L := [(3, 13, 28), (4, 17, 30), (2, 21, 35)]) (n0 := 1) (y := (4, 17, 30)) (rest := [.int 0, .ref qo]) k hqo F B.returns hlk (by decide) rfl kca_ready rfl hR (Nat.le_of_ble_eq_true rfl) (fun v hv => by simp at hv; rcases hv with rfl | rfl <;> trivial) hh rfl hl.1 hP hO hE hca (Nat.le_of_ble_eq_true rfl) kd_ready_5 (by rw [htab]; rfl) (by decide) kcl_ready (knd_of (by decide)) rfl rfl hl (fun x9 H1 locs1 hS1 hq => ?_)
    refine lv_astore (nL := 5) hx hb kd_ready_17 hl (by decide) rfl (fun ls1 hl1 => ?_)
    refine lv_iconst (v := nI (1 + 1)) hx hb kd_ready_19 rfl ?_
    exact W.iret (v := nI (1 + 1)) hx hb B.returns hq hS1.2.2 kd_ready_20 hlk
  · cases hn
    refine kw_t (as := [vI u0, vI u1]) (mj := 29) (pc := 5) (en := 10) (L := [(3, 13, 28), (4, 17, 30), (2, 21, 35)]) (n0 := 2) (y := (2, 21, 35)) (rest := [.int 0, .ref qo]) k hqo F B.returns hlk (by decide) rfl kca_ready rfl hR (Nat.le_of_ble_eq_true rfl) (fun v hv => by simp at hv; rcases hv with rfl | rfl <;> trivial) hh rfl hl.1 hP hO hE hca (Nat.le_of_ble_eq_true rfl) kd_ready_5 (by rw [htab]; rfl) (by decide) kcl_ready (knd_of (by decide)) rfl rfl hl (fun x9 H1 locs1 hS1 hq => ?_)
    refine lv_astore (nL := 5) hx hb kd_ready_21 hl (by decide) rfl (fun ls1 hl1 => ?_)
    refine lv_iconst (v := nI (2 + 1)) hx hb kd_ready_23 rfl ?_
    exact W.iret (v := nI (2 + 1)) hx hb B.returns hq hS1.2.2 kd_ready_24 hlk
theorem kd_word_0 : decode method_18_code 0 = .ok (.aload_n 3, 1) := by decide +kernel
theorem kd_word_1 : decode method_18_code 1 = .ok (.iconst 0, 1) := by decide +kernel
theorem kd_word_2 : decode method_18_code 2 = .ok (.aload_n 0, 1) := by decide +kernel
theorem kd_word_3 : decode method_18_code 3 = .ok (.iload_n 1, 1) := by decide +kernel
theorem kd_word_4 : decode method_18_code 4 = .ok (.iload_n 2, 1) := by decide +kernel
theorem kd_word_5 : decode method_18_code 5 = .ok (.invokevirtual 69, 3) := by decide +kernel
theorem kd_word_8 : decode method_18_code 8 = .ok (.i2l, 1) := by decide +kernel
theorem kd_word_9 : decode method_18_code 9 = .ok (.lastore, 1) := by decide +kernel
theorem kd_word_10 : decode method_18_code 10 = .ok (.goto 15, 3) := by decide +kernel
theorem kd_word_13 : decode method_18_code 13 = .ok (.astore 4, 2) := by decide +kernel
theorem kd_word_15 : decode method_18_code 15 = .ok (.iconst 1, 1) := by decide +kernel
theorem kd_word_16 : decode method_18_code 16 = .ok (.ireturn, 1) := by decide +kernel
theorem kd_word_17 : decode method_18_code 17 = .ok (.astore 4, 2) := by decide +kernel
theorem kd_word_19 : decode method_18_code 19 = .ok (.iconst 2, 1) := by decide +kernel
theorem kd_word_20 : decode method_18_code 20 = .ok (.ireturn, 1) := by decide +kernel
theorem kd_word_21 : decode method_18_code 21 = .ok (.astore 4, 2) := by decide +kernel
theorem kd_word_23 : decode method_18_code 23 = .ok (.iconst 3, 1) := by decide +kernel
theorem kd_word_24 : decode method_18_code 24 = .ok (.ireturn, 1) := by decide +kernel
theorem kd_word_25 : decode method_18_code 25 = .ok (.iconst 0, 1) := by decide +kernel
theorem kd_word_26 : decode method_18_code 26 = .ok (.ireturn, 1) := by decide +kernel
def ky_word : MethodName := ⟨"LinkedCoresLaw", "word", "(LLinkedCores;II[J)I"⟩
def khs_word : List (Nat × Nat × Nat × Nat) := [(0, 10, 13, 28), (0, 10, 17, 30), (0, 10, 21, 35)]
theorem kca_word : Cond.methodLink "LinkedCoresLaw" 69 (mw_y 30) ∈ mw_good := mw_good_of (mw_tm8 (List.mem_of_getElem? (i := 200) rfl)) rfl
theorem kcl_word : ∀ q ∈ ([(3, 13, 28), (4, 17, 30), (2, 21, 35)] : List (Nat × Nat × Nat)), 0 < q.1 ∧ q.1 < 6 ∧ q.2.2 ≠ 0 ∧ Cond.classLink "LinkedCoresLaw" q.2.2 (mw_xn q.1) ∈ mw_good := List.forall_mem_cons.mpr ⟨⟨by decide, by decide, by decide, klk_3⟩, List.forall_mem_cons.mpr ⟨⟨by decide, by decide, by decide, klk_4⟩, List.forall_mem_cons.mpr ⟨⟨by decide, by decide, by decide, klk_2⟩, fun _ h => absurd h List.not_mem_nil⟩⟩⟩
theorem kt_word_r {l : Launch} {s0 : State} {dC : Nat → ClassId} {dI : Nat → Nat → Nat} {ad : Nat → Nat → Nat} {aV : Nat → Nat} {cA : Nat → ClassId} {qo : Nat} (k : kH l s0 ad aV) (hqo : ¬ mw_A ad qo) {u0 : Int32} {u1 : Int32} {v : Int32} {h h' : mj_H} {f : Nat → Int64} (hh : mw_hv h) (hR : mj_R mg 1322 mq_30 (0, [(0, vR 2 0), (1, vI u0), (2, vI u1)], [], h) = some (.inl (some (vI v), h'))) : Met l ky_word (kWs ky_word method_18_code 5 khs_word) kRm (kPc dC dI ad cA s0 qo [.ref (ad 2 0), .int u0, .int u1, .ref qo] h f) (kQc dC dI ad cA qo h' (fun r f1 => r = 0 ∧ f1 0 = v.toInt64)) 1 6 (kAo ad qo) := by
  refine kMet (cc := method_18_code) (maxL := 5) (ret := some .int) (hs := khs_word) (by decide) List.mem_cons_self ?_
  intro p e s m args below meth c s₁ B hml htab hv
  obtain ⟨rfl, hP, hO, hK, hE⟩ := hv
  have hts := atoms_spec (ws := kWs ky_word method_18_code 5 khs_word) B.pre
  have hown : s.vm.findClass "LinkedCoresLaw" = some m.cls := findClass_of_methodNamed B.named
  have hlk := B.notSynchronized
  have hx := B.exec
  have hb := B.bytes
  have F : kFr dC dI cA p s0 s m _ c method_18_code 5 := ⟨hx, hb, hml, hown, fun w hw => hts w (List.mem_cons_of_mem _ hw), hK, hE.1⟩
  have hl := lv_entry ([.ref (ad 2 0), .int u0, .int u1, .ref qo]) (n := 5) (Nat.le_of_ble_eq_true rfl)
  rw [lg_entry_eq]
  generalize (lg_sl ([.ref (ad 2 0), .int u0, .int u1, .ref qo]) ++ List.replicate (5 - (lg_sl ([.ref (ad 2 0), .int u0, .int u1, .ref qo])).length) Slot.unset).toArray = ls at hl ⊢
  have hl : lv_has ls 5 [(0, .ref (ad 2 0)), (1, .int u0), (2, .int u1), (3, .ref qo)] := hl
  refine lv_aload_n (k := 3) hx hb kd_word_0 rfl (lv_at hl 3 rfl) ?_
  refine lv_iconst (v := 0) hx hb kd_word_1 rfl ?_
  refine lv_aload_n (k := 0) hx hb kd_word_2 rfl (lv_at hl 0 rfl) ?_
  refine lv_iload_n (k := 1) hx hb kd_word_3 rfl (lv_at hl 1 rfl) ?_
  refine lv_iload_n (k := 2) hx hb kd_word_4 rfl (lv_at hl 2 rfl) ?_
  exact kw_r (as := [vI u0, vI u1]) (mj := 30) (pc := 5) (tgt := 25) k hqo F B.returns hlk (by decide) rfl kca_word rfl hR (Nat.le_of_ble_eq_true rfl) (fun v hv => by simp at hv; rcases hv with rfl | rfl <;> trivial) hh rfl hl.1 hP hO hE kd_word_5 kd_word_8 kd_word_9 kd_word_10 rfl kd_word_25 kd_word_26
theorem kt_word_t {l : Launch} {s0 : State} {dC : Nat → ClassId} {dI : Nat → Nat → Nat} {ad : Nat → Nat → Nat} {aV : Nat → Nat} {cA : Nat → ClassId} {qo : Nat} (k : kH l s0 ad aV) (hqo : ¬ mw_A ad qo) {a0 : Array Value} (hca : kCa s0 a0) {u0 : Int32} {u1 : Int32} {x0 n0 : Nat} {h h' : mj_H} {f : Nat → Int64} (hh : mw_hv h) (hR : mj_R mg 1322 mq_30 (0, [(0, vR 2 0), (1, vI u0), (2, vI u1)], [], h) = some (.inr (x0, h'))) (hn : ([3, 4, 2] : List Nat)[n0]? = some x0) : Met l ky_word (kWs ky_word method_18_code 5 khs_word) kRm (kPc dC dI ad cA s0 qo [.ref (ad 2 0), .int u0, .int u1, .ref qo] h f) (kQc dC dI ad cA qo h' (fun r _ => r = nI (n0 + 1))) 1 6 (kAo ad qo) := by
  refine kMet (cc := method_18_code) (maxL := 5) (ret := some .int) (hs := khs_word) (by decide) List.mem_cons_self ?_
  intro p e s m args below meth c s₁ B hml htab hv
  obtain ⟨rfl, hP, hO, hK, hE⟩ := hv
  have hts := atoms_spec (ws := kWs ky_word method_18_code 5 khs_word) B.pre
  have hown : s.vm.findClass "LinkedCoresLaw" = some m.cls := findClass_of_methodNamed B.named
  have hlk := B.notSynchronized
  have hx := B.exec
  have hb := B.bytes
  have F : kFr dC dI cA p s0 s m _ c method_18_code 5 := ⟨hx, hb, hml, hown, fun w hw => hts w (List.mem_cons_of_mem _ hw), hK, hE.1⟩
  have hl := lv_entry ([.ref (ad 2 0), .int u0, .int u1, .ref qo]) (n := 5) (Nat.le_of_ble_eq_true rfl)
  rw [lg_entry_eq]
  generalize (lg_sl ([.ref (ad 2 0), .int u0, .int u1, .ref qo]) ++ List.replicate (5 - (lg_sl ([.ref (ad 2 0), .int u0, .int u1, .ref qo])).length) Slot.unset).toArray = ls at hl ⊢
  have hl : lv_has ls 5 [(0, .ref (ad 2 0)), (1, .int u0), (2, .int u1), (3, .ref qo)] := hl
  refine lv_aload_n (k := 3) hx hb kd_word_0 rfl (lv_at hl 3 rfl) ?_
  refine lv_iconst (v := 0) hx hb kd_word_1 rfl ?_
  refine lv_aload_n (k := 0) hx hb kd_word_2 rfl (lv_at hl 0 rfl) ?_
  refine lv_iload_n (k := 1) hx hb kd_word_3 rfl (lv_at hl 1 rfl) ?_
  refine lv_iload_n (k := 2) hx hb kd_word_4 rfl (lv_at hl 2 rfl) ?_
  have hn2 : n0 < 3 := (List.getElem?_eq_some_iff.mp hn).1
  have hn3 : n0 = 0 ∨ n0 = 1 ∨ n0 = 2 := by omega
  rcases hn3 with rfl | rfl | rfl
  · cases hn
    refine kw_t (as := [vI u0, vI u1]) (mj := 30) (pc := 5) (en := 10) (L := [(3, 13, 28), (4, 17, 30), (2, 21, 35)]) (n0 := 0) (y := (3, 13, 28)) (rest := [.int 0, .ref qo]) k hqo F B.returns hlk (by decide) rfl kca_word rfl hR (Nat.le_of_ble_eq_true rfl) (fun v hv => by simp at hv; rcases hv with rfl | rfl <;> trivial) hh rfl hl.1 hP hO hE hca (Nat.le_of_ble_eq_true rfl) kd_word_5 (by rw [htab]; rfl) (by decide) kcl_word (knd_of (by decide)) rfl rfl hl (fun x9 H1 locs1 hS1 hq => ?_)
    refine lv_astore (nL := 5) hx hb kd_word_13 hl (by decide) rfl (fun ls1 hl1 => ?_)
    refine lv_iconst (v := nI (0 + 1)) hx hb kd_word_15 rfl ?_
    exact W.iret (v := nI (0 + 1)) hx hb B.returns hq hS1.2.2 kd_word_16 hlk
  · cases hn
    refine kw_t (as := [vI u0, vI u1]) (mj := 30) (pc := 5) (en := 10) (L := [(3, 13, 28), (4, 17, 30), (2, 21, 35)]) (n0 := 1) (y := (4, 17, 30)) (rest := [.int 0, .ref qo]) k hqo F B.returns hlk (by decide) rfl kca_word rfl hR (Nat.le_of_ble_eq_true rfl) (fun v hv => by simp at hv; rcases hv with rfl | rfl <;> trivial) hh rfl hl.1 hP hO hE hca (Nat.le_of_ble_eq_true rfl) kd_word_5 (by rw [htab]; rfl) (by decide) kcl_word (knd_of (by decide)) rfl rfl hl (fun x9 H1 locs1 hS1 hq => ?_)
    refine lv_astore (nL := 5) hx hb kd_word_17 hl (by decide) rfl (fun ls1 hl1 => ?_)
    refine lv_iconst (v := nI (1 + 1)) hx hb kd_word_19 rfl ?_
    exact W.iret (v := nI (1 + 1)) hx hb B.returns hq hS1.2.2 kd_word_20 hlk
  · cases hn
    refine kw_t (as := [vI u0, vI u1]) (mj := 30) (pc := 5) (en := 10) (L := [(3, 13, 28), (4, 17, 30), (2, 21, 35)]) (n0 := 2) (y := (2, 21, 35)) (rest := [.int 0, .ref qo]) k hqo F B.returns hlk (by decide) rfl kca_word rfl hR (Nat.le_of_ble_eq_true rfl) (fun v hv => by simp at hv; rcases hv with rfl | rfl <;> trivial) hh rfl hl.1 hP hO hE hca (Nat.le_of_ble_eq_true rfl) kd_word_5 (by rw [htab]; rfl) (by decide) kcl_word (knd_of (by decide)) rfl rfl hl (fun x9 H1 locs1 hS1 hq => ?_)
    refine lv_astore (nL := 5) hx hb kd_word_21 hl (by decide) rfl (fun ls1 hl1 => ?_)
    refine lv_iconst (v := nI (2 + 1)) hx hb kd_word_23 rfl ?_
    exact W.iret (v := nI (2 + 1)) hx hb B.returns hq hS1.2.2 kd_word_24 hlk
theorem kd_output_0 : decode method_19_code 0 = .ok (.aload_n 2, 1) := by decide +kernel
theorem kd_output_1 : decode method_19_code 1 = .ok (.iconst 0, 1) := by decide +kernel
theorem kd_output_2 : decode method_19_code 2 = .ok (.aload_n 0, 1) := by decide +kernel
theorem kd_output_3 : decode method_19_code 3 = .ok (.iload_n 1, 1) := by decide +kernel
theorem kd_output_4 : decode method_19_code 4 = .ok (.invokevirtual 72, 3) := by decide +kernel
theorem kd_output_7 : decode method_19_code 7 = .ok (.i2l, 1) := by decide +kernel
theorem kd_output_8 : decode method_19_code 8 = .ok (.lastore, 1) := by decide +kernel
theorem kd_output_9 : decode method_19_code 9 = .ok (.goto 9, 3) := by decide +kernel
theorem kd_output_12 : decode method_19_code 12 = .ok (.astore_n 3, 1) := by decide +kernel
theorem kd_output_13 : decode method_19_code 13 = .ok (.iconst 1, 1) := by decide +kernel
theorem kd_output_14 : decode method_19_code 14 = .ok (.ireturn, 1) := by decide +kernel
theorem kd_output_15 : decode method_19_code 15 = .ok (.astore_n 3, 1) := by decide +kernel
theorem kd_output_16 : decode method_19_code 16 = .ok (.iconst 2, 1) := by decide +kernel
theorem kd_output_17 : decode method_19_code 17 = .ok (.ireturn, 1) := by decide +kernel
theorem kd_output_18 : decode method_19_code 18 = .ok (.iconst 0, 1) := by decide +kernel
theorem kd_output_19 : decode method_19_code 19 = .ok (.ireturn, 1) := by decide +kernel
def ky_output : MethodName := ⟨"LinkedCoresLaw", "output", "(LLinkedCores;I[J)I"⟩
def khs_output : List (Nat × Nat × Nat × Nat) := [(0, 9, 12, 28), (0, 9, 15, 35)]
theorem kca_output : Cond.methodLink "LinkedCoresLaw" 72 (mw_y 31) ∈ mw_good := mw_good_of (mw_tm8 (List.mem_of_getElem? (i := 207) rfl)) rfl
theorem kcl_output : ∀ q ∈ ([(3, 12, 28), (2, 15, 35)] : List (Nat × Nat × Nat)), 0 < q.1 ∧ q.1 < 6 ∧ q.2.2 ≠ 0 ∧ Cond.classLink "LinkedCoresLaw" q.2.2 (mw_xn q.1) ∈ mw_good := List.forall_mem_cons.mpr ⟨⟨by decide, by decide, by decide, klk_3⟩, List.forall_mem_cons.mpr ⟨⟨by decide, by decide, by decide, klk_2⟩, fun _ h => absurd h List.not_mem_nil⟩⟩
theorem kt_output_r {l : Launch} {s0 : State} {dC : Nat → ClassId} {dI : Nat → Nat → Nat} {ad : Nat → Nat → Nat} {aV : Nat → Nat} {cA : Nat → ClassId} {qo : Nat} (k : kH l s0 ad aV) (hqo : ¬ mw_A ad qo) {u0 : Int32} {v : Int32} {h h' : mj_H} {f : Nat → Int64} (hh : mw_hv h) (hR : mj_R mg 1322 mq_31 (0, [(0, vR 2 0), (1, vI u0)], [], h) = some (.inl (some (vI v), h'))) : Met l ky_output (kWs ky_output method_19_code 4 khs_output) kRm (kPc dC dI ad cA s0 qo [.ref (ad 2 0), .int u0, .ref qo] h f) (kQc dC dI ad cA qo h' (fun r f1 => r = 0 ∧ f1 0 = v.toInt64)) 1 6 (kAo ad qo) := by
  refine kMet (cc := method_19_code) (maxL := 4) (ret := some .int) (hs := khs_output) (by decide) List.mem_cons_self ?_
  intro p e s m args below meth c s₁ B hml htab hv
  obtain ⟨rfl, hP, hO, hK, hE⟩ := hv
  have hts := atoms_spec (ws := kWs ky_output method_19_code 4 khs_output) B.pre
  have hown : s.vm.findClass "LinkedCoresLaw" = some m.cls := findClass_of_methodNamed B.named
  have hlk := B.notSynchronized
  have hx := B.exec
  have hb := B.bytes
  have F : kFr dC dI cA p s0 s m _ c method_19_code 4 := ⟨hx, hb, hml, hown, fun w hw => hts w (List.mem_cons_of_mem _ hw), hK, hE.1⟩
  have hl := lv_entry ([.ref (ad 2 0), .int u0, .ref qo]) (n := 4) (Nat.le_of_ble_eq_true rfl)
  rw [lg_entry_eq]
  generalize (lg_sl ([.ref (ad 2 0), .int u0, .ref qo]) ++ List.replicate (4 - (lg_sl ([.ref (ad 2 0), .int u0, .ref qo])).length) Slot.unset).toArray = ls at hl ⊢
  have hl : lv_has ls 4 [(0, .ref (ad 2 0)), (1, .int u0), (2, .ref qo)] := hl
  refine lv_aload_n (k := 2) hx hb kd_output_0 rfl (lv_at hl 2 rfl) ?_
  refine lv_iconst (v := 0) hx hb kd_output_1 rfl ?_
  refine lv_aload_n (k := 0) hx hb kd_output_2 rfl (lv_at hl 0 rfl) ?_
  refine lv_iload_n (k := 1) hx hb kd_output_3 rfl (lv_at hl 1 rfl) ?_
  exact kw_r (as := [vI u0]) (mj := 31) (pc := 4) (tgt := 18) k hqo F B.returns hlk (by decide) rfl kca_output rfl hR (Nat.le_of_ble_eq_true rfl) (fun v hv => by simp at hv; subst hv; trivial) hh rfl hl.1 hP hO hE kd_output_4 kd_output_7 kd_output_8 kd_output_9 rfl kd_output_18 kd_output_19
theorem kt_output_t {l : Launch} {s0 : State} {dC : Nat → ClassId} {dI : Nat → Nat → Nat} {ad : Nat → Nat → Nat} {aV : Nat → Nat} {cA : Nat → ClassId} {qo : Nat} (k : kH l s0 ad aV) (hqo : ¬ mw_A ad qo) {a0 : Array Value} (hca : kCa s0 a0) {u0 : Int32} {x0 n0 : Nat} {h h' : mj_H} {f : Nat → Int64} (hh : mw_hv h) (hR : mj_R mg 1322 mq_31 (0, [(0, vR 2 0), (1, vI u0)], [], h) = some (.inr (x0, h'))) (hn : ([3, 2] : List Nat)[n0]? = some x0) : Met l ky_output (kWs ky_output method_19_code 4 khs_output) kRm (kPc dC dI ad cA s0 qo [.ref (ad 2 0), .int u0, .ref qo] h f) (kQc dC dI ad cA qo h' (fun r _ => r = nI (n0 + 1))) 1 6 (kAo ad qo) := by
  refine kMet (cc := method_19_code) (maxL := 4) (ret := some .int) (hs := khs_output) (by decide) List.mem_cons_self ?_
  intro p e s m args below meth c s₁ B hml htab hv
  obtain ⟨rfl, hP, hO, hK, hE⟩ := hv
  have hts := atoms_spec (ws := kWs ky_output method_19_code 4 khs_output) B.pre
  have hown : s.vm.findClass "LinkedCoresLaw" = some m.cls := findClass_of_methodNamed B.named
  have hlk := B.notSynchronized
  have hx := B.exec
  have hb := B.bytes
  have F : kFr dC dI cA p s0 s m _ c method_19_code 4 := ⟨hx, hb, hml, hown, fun w hw => hts w (List.mem_cons_of_mem _ hw), hK, hE.1⟩
  have hl := lv_entry ([.ref (ad 2 0), .int u0, .ref qo]) (n := 4) (Nat.le_of_ble_eq_true rfl)
  rw [lg_entry_eq]
  generalize (lg_sl ([.ref (ad 2 0), .int u0, .ref qo]) ++ List.replicate (4 - (lg_sl ([.ref (ad 2 0), .int u0, .ref qo])).length) Slot.unset).toArray = ls at hl ⊢
  have hl : lv_has ls 4 [(0, .ref (ad 2 0)), (1, .int u0), (2, .ref qo)] := hl
  refine lv_aload_n (k := 2) hx hb kd_output_0 rfl (lv_at hl 2 rfl) ?_
  refine lv_iconst (v := 0) hx hb kd_output_1 rfl ?_
  refine lv_aload_n (k := 0) hx hb kd_output_2 rfl (lv_at hl 0 rfl) ?_
  refine lv_iload_n (k := 1) hx hb kd_output_3 rfl (lv_at hl 1 rfl) ?_
  have hn2 : n0 < 2 := (List.getElem?_eq_some_iff.mp hn).1
  have hn3 : n0 = 0 ∨ n0 = 1 := by omega
  rcases hn3 with rfl | rfl
  · cases hn
    refine kw_t (as := [vI u0]) (mj := 31) (pc := 4) (en := 9) (L := [(3, 12, 28), (2, 15, 35)]) (n0 := 0) (y := (3, 12, 28)) (rest := [.int 0, .ref qo]) k hqo F B.returns hlk (by decide) rfl kca_output rfl hR (Nat.le_of_ble_eq_true rfl) (fun v hv => by simp at hv; subst hv; trivial) hh rfl hl.1 hP hO hE hca (Nat.le_of_ble_eq_true rfl) kd_output_4 (by rw [htab]; rfl) (by decide) kcl_output (knd_of (by decide)) rfl rfl hl (fun x9 H1 locs1 hS1 hq => ?_)
    refine lv_astore_n (k := 3) (nL := 4) hx hb kd_output_12 rfl hl (by decide) rfl (fun ls1 hl1 => ?_)
    refine lv_iconst (v := nI (0 + 1)) hx hb kd_output_13 rfl ?_
    exact W.iret (v := nI (0 + 1)) hx hb B.returns hq hS1.2.2 kd_output_14 hlk
  · cases hn
    refine kw_t (as := [vI u0]) (mj := 31) (pc := 4) (en := 9) (L := [(3, 12, 28), (2, 15, 35)]) (n0 := 1) (y := (2, 15, 35)) (rest := [.int 0, .ref qo]) k hqo F B.returns hlk (by decide) rfl kca_output rfl hR (Nat.le_of_ble_eq_true rfl) (fun v hv => by simp at hv; subst hv; trivial) hh rfl hl.1 hP hO hE hca (Nat.le_of_ble_eq_true rfl) kd_output_4 (by rw [htab]; rfl) (by decide) kcl_output (knd_of (by decide)) rfl rfl hl (fun x9 H1 locs1 hS1 hq => ?_)
    refine lv_astore_n (k := 3) (nL := 4) hx hb kd_output_15 rfl hl (by decide) rfl (fun ls1 hl1 => ?_)
    refine lv_iconst (v := nI (1 + 1)) hx hb kd_output_16 rfl ?_
    exact W.iret (v := nI (1 + 1)) hx hb B.returns hq hS1.2.2 kd_output_17 hlk
theorem kd_about_0 : decode method_20_code 0 = .ok (.aload_n 2, 1) := by decide +kernel
theorem kd_about_1 : decode method_20_code 1 = .ok (.iconst 0, 1) := by decide +kernel
theorem kd_about_2 : decode method_20_code 2 = .ok (.aload_n 0, 1) := by decide +kernel
theorem kd_about_3 : decode method_20_code 3 = .ok (.iload_n 1, 1) := by decide +kernel
theorem kd_about_4 : decode method_20_code 4 = .ok (.invokevirtual 75, 3) := by decide +kernel
theorem kd_about_7 : decode method_20_code 7 = .ok (.i2l, 1) := by decide +kernel
theorem kd_about_8 : decode method_20_code 8 = .ok (.lastore, 1) := by decide +kernel
theorem kd_about_9 : decode method_20_code 9 = .ok (.goto 9, 3) := by decide +kernel
theorem kd_about_12 : decode method_20_code 12 = .ok (.astore_n 3, 1) := by decide +kernel
theorem kd_about_13 : decode method_20_code 13 = .ok (.iconst 1, 1) := by decide +kernel
theorem kd_about_14 : decode method_20_code 14 = .ok (.ireturn, 1) := by decide +kernel
theorem kd_about_15 : decode method_20_code 15 = .ok (.astore_n 3, 1) := by decide +kernel
theorem kd_about_16 : decode method_20_code 16 = .ok (.iconst 2, 1) := by decide +kernel
theorem kd_about_17 : decode method_20_code 17 = .ok (.ireturn, 1) := by decide +kernel
theorem kd_about_18 : decode method_20_code 18 = .ok (.iconst 0, 1) := by decide +kernel
theorem kd_about_19 : decode method_20_code 19 = .ok (.ireturn, 1) := by decide +kernel
def ky_about : MethodName := ⟨"LinkedCoresLaw", "about", "(LLinkedCores;I[J)I"⟩
def khs_about : List (Nat × Nat × Nat × Nat) := [(0, 9, 12, 28), (0, 9, 15, 13)]
theorem kca_about : Cond.methodLink "LinkedCoresLaw" 75 (mw_y 32) ∈ mw_good := mw_good_of (mw_tm8 (List.mem_of_getElem? (i := 215) rfl)) rfl
theorem kcl_about : ∀ q ∈ ([(3, 12, 28), (1, 15, 13)] : List (Nat × Nat × Nat)), 0 < q.1 ∧ q.1 < 6 ∧ q.2.2 ≠ 0 ∧ Cond.classLink "LinkedCoresLaw" q.2.2 (mw_xn q.1) ∈ mw_good := List.forall_mem_cons.mpr ⟨⟨by decide, by decide, by decide, klk_3⟩, List.forall_mem_cons.mpr ⟨⟨by decide, by decide, by decide, klk_1⟩, fun _ h => absurd h List.not_mem_nil⟩⟩
theorem kt_about_r {l : Launch} {s0 : State} {dC : Nat → ClassId} {dI : Nat → Nat → Nat} {ad : Nat → Nat → Nat} {aV : Nat → Nat} {cA : Nat → ClassId} {qo : Nat} (k : kH l s0 ad aV) (hqo : ¬ mw_A ad qo) {u0 : Int32} {v : Int32} {h h' : mj_H} {f : Nat → Int64} (hh : mw_hv h) (hR : mj_R mg 1322 mq_32 (0, [(0, vR 2 0), (1, vI u0)], [], h) = some (.inl (some (vI v), h'))) : Met l ky_about (kWs ky_about method_20_code 4 khs_about) kRm (kPc dC dI ad cA s0 qo [.ref (ad 2 0), .int u0, .ref qo] h f) (kQc dC dI ad cA qo h' (fun r f1 => r = 0 ∧ f1 0 = v.toInt64)) 1 6 (kAo ad qo) := by
  refine kMet (cc := method_20_code) (maxL := 4) (ret := some .int) (hs := khs_about) (by decide) List.mem_cons_self ?_
  intro p e s m args below meth c s₁ B hml htab hv
  obtain ⟨rfl, hP, hO, hK, hE⟩ := hv
  have hts := atoms_spec (ws := kWs ky_about method_20_code 4 khs_about) B.pre
  have hown : s.vm.findClass "LinkedCoresLaw" = some m.cls := findClass_of_methodNamed B.named
  have hlk := B.notSynchronized
  have hx := B.exec
  have hb := B.bytes
  have F : kFr dC dI cA p s0 s m _ c method_20_code 4 := ⟨hx, hb, hml, hown, fun w hw => hts w (List.mem_cons_of_mem _ hw), hK, hE.1⟩
  have hl := lv_entry ([.ref (ad 2 0), .int u0, .ref qo]) (n := 4) (Nat.le_of_ble_eq_true rfl)
  rw [lg_entry_eq]
  generalize (lg_sl ([.ref (ad 2 0), .int u0, .ref qo]) ++ List.replicate (4 - (lg_sl ([.ref (ad 2 0), .int u0, .ref qo])).length) Slot.unset).toArray = ls at hl ⊢
  have hl : lv_has ls 4 [(0, .ref (ad 2 0)), (1, .int u0), (2, .ref qo)] := hl
  refine lv_aload_n (k := 2) hx hb kd_about_0 rfl (lv_at hl 2 rfl) ?_
  refine lv_iconst (v := 0) hx hb kd_about_1 rfl ?_
  refine lv_aload_n (k := 0) hx hb kd_about_2 rfl (lv_at hl 0 rfl) ?_
  refine lv_iload_n (k := 1) hx hb kd_about_3 rfl (lv_at hl 1 rfl) ?_
  exact kw_r (as := [vI u0]) (mj := 32) (pc := 4) (tgt := 18) k hqo F B.returns hlk (by decide) rfl kca_about rfl hR (Nat.le_of_ble_eq_true rfl) (fun v hv => by simp at hv; subst hv; trivial) hh rfl hl.1 hP hO hE kd_about_4 kd_about_7 kd_about_8 kd_about_9 rfl kd_about_18 kd_about_19
theorem kt_about_t {l : Launch} {s0 : State} {dC : Nat → ClassId} {dI : Nat → Nat → Nat} {ad : Nat → Nat → Nat} {aV : Nat → Nat} {cA : Nat → ClassId} {qo : Nat} (k : kH l s0 ad aV) (hqo : ¬ mw_A ad qo) {a0 : Array Value} (hca : kCa s0 a0) {u0 : Int32} {x0 n0 : Nat} {h h' : mj_H} {f : Nat → Int64} (hh : mw_hv h) (hR : mj_R mg 1322 mq_32 (0, [(0, vR 2 0), (1, vI u0)], [], h) = some (.inr (x0, h'))) (hn : ([3, 1] : List Nat)[n0]? = some x0) : Met l ky_about (kWs ky_about method_20_code 4 khs_about) kRm (kPc dC dI ad cA s0 qo [.ref (ad 2 0), .int u0, .ref qo] h f) (kQc dC dI ad cA qo h' (fun r _ => r = nI (n0 + 1))) 1 6 (kAo ad qo) := by
  refine kMet (cc := method_20_code) (maxL := 4) (ret := some .int) (hs := khs_about) (by decide) List.mem_cons_self ?_
  intro p e s m args below meth c s₁ B hml htab hv
  obtain ⟨rfl, hP, hO, hK, hE⟩ := hv
  have hts := atoms_spec (ws := kWs ky_about method_20_code 4 khs_about) B.pre
  have hown : s.vm.findClass "LinkedCoresLaw" = some m.cls := findClass_of_methodNamed B.named
  have hlk := B.notSynchronized
  have hx := B.exec
  have hb := B.bytes
  have F : kFr dC dI cA p s0 s m _ c method_20_code 4 := ⟨hx, hb, hml, hown, fun w hw => hts w (List.mem_cons_of_mem _ hw), hK, hE.1⟩
  have hl := lv_entry ([.ref (ad 2 0), .int u0, .ref qo]) (n := 4) (Nat.le_of_ble_eq_true rfl)
  rw [lg_entry_eq]
  generalize (lg_sl ([.ref (ad 2 0), .int u0, .ref qo]) ++ List.replicate (4 - (lg_sl ([.ref (ad 2 0), .int u0, .ref qo])).length) Slot.unset).toArray = ls at hl ⊢
  have hl : lv_has ls 4 [(0, .ref (ad 2 0)), (1, .int u0), (2, .ref qo)] := hl
  refine lv_aload_n (k := 2) hx hb kd_about_0 rfl (lv_at hl 2 rfl) ?_
  refine lv_iconst (v := 0) hx hb kd_about_1 rfl ?_
  refine lv_aload_n (k := 0) hx hb kd_about_2 rfl (lv_at hl 0 rfl) ?_
  refine lv_iload_n (k := 1) hx hb kd_about_3 rfl (lv_at hl 1 rfl) ?_
  have hn2 : n0 < 2 := (List.getElem?_eq_some_iff.mp hn).1
  have hn3 : n0 = 0 ∨ n0 = 1 := by omega
  rcases hn3 with rfl | rfl
  · cases hn
    refine kw_t (as := [vI u0]) (mj := 32) (pc := 4) (en := 9) (L := [(3, 12, 28), (1, 15, 13)]) (n0 := 0) (y := (3, 12, 28)) (rest := [.int 0, .ref qo]) k hqo F B.returns hlk (by decide) rfl kca_about rfl hR (Nat.le_of_ble_eq_true rfl) (fun v hv => by simp at hv; subst hv; trivial) hh rfl hl.1 hP hO hE hca (Nat.le_of_ble_eq_true rfl) kd_about_4 (by rw [htab]; rfl) (by decide) kcl_about (knd_of (by decide)) rfl rfl hl (fun x9 H1 locs1 hS1 hq => ?_)
    refine lv_astore_n (k := 3) (nL := 4) hx hb kd_about_12 rfl hl (by decide) rfl (fun ls1 hl1 => ?_)
    refine lv_iconst (v := nI (0 + 1)) hx hb kd_about_13 rfl ?_
    exact W.iret (v := nI (0 + 1)) hx hb B.returns hq hS1.2.2 kd_about_14 hlk
  · cases hn
    refine kw_t (as := [vI u0]) (mj := 32) (pc := 4) (en := 9) (L := [(3, 12, 28), (1, 15, 13)]) (n0 := 1) (y := (1, 15, 13)) (rest := [.int 0, .ref qo]) k hqo F B.returns hlk (by decide) rfl kca_about rfl hR (Nat.le_of_ble_eq_true rfl) (fun v hv => by simp at hv; subst hv; trivial) hh rfl hl.1 hP hO hE hca (Nat.le_of_ble_eq_true rfl) kd_about_4 (by rw [htab]; rfl) (by decide) kcl_about (knd_of (by decide)) rfl rfl hl (fun x9 H1 locs1 hS1 hq => ?_)
    refine lv_astore_n (k := 3) (nL := 4) hx hb kd_about_15 rfl hl (by decide) rfl (fun ls1 hl1 => ?_)
    refine lv_iconst (v := nI (1 + 1)) hx hb kd_about_16 rfl ?_
    exact W.iret (v := nI (1 + 1)) hx hb B.returns hq hS1.2.2 kd_about_17 hlk
