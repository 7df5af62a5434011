/-! a method's contract out of its walk -/
def mw_Pc (dC : Nat → ClassId) (dI : Nat → Nat → Nat) (ad : Nat → Nat → Nat) (cA : Nat → ClassId) (E : State → Prop) (as : List mj_V) (h : mj_H) : Array Value → State → Prop := fun v U => v = (as.map (mw_v ad)).toArray ∧ va_P (dC, dI) mw_cl (mw_ws ad cA h) U.heap ∧ mw_K dC dI cA U ∧ E U
def mw_wsm (mj : Nat) : List Cond := mw_codeC mj :: mw_good
theorem mw_args_map (ad : Nat → Nat → Nat) : ∀ (as : List mj_V) (i : Nat), lv_args i (as.map (mw_v ad)) = (mj_args i as).map (fun q => (q.1, mw_v ad q.2))
  | [], _ => rfl
  | v :: as, i => by
    have e : (if mj_cat v = 2 then i + 2 else i + 1) = i + mj_cat v := by rcases v with x | x | x <;> rfl
    simp only [List.map_cons, lv_args, mj_args, mw_cat_v, e, mw_args_map ad as]
theorem mw_args_vd : ∀ (as : List mj_V) (i : Nat), (∀ v ∈ as, mw_vd v) → ∀ q ∈ mj_args i as, mw_vd q.2
  | [], _, _, q, hq => absurd hq List.not_mem_nil
  | v :: as, i, h, q, hq => by
    rcases List.mem_cons.mp hq with rfl | hq
    · exact h v List.mem_cons_self
    · exact mw_args_vd as _ (fun v hv => h v (List.mem_cons_of_mem _ hv)) q hq
theorem mw_sl_len (ad : Nat → Nat → Nat) : ∀ as : List mj_V, (lg_sl (as.map (mw_v ad))).length = mj_wd as
  | [] => rfl
  | v :: as => by
    have ih := mw_sl_len ad as
    rcases v with x | x | x <;> simp_all [lg_sl, mw_v, mj_wd, mj_cat, Value.category] <;> omega
section Sound
variable {l : Launch} {dC : Nat → ClassId} {dI : Nat → Nat → Nat} {ad : Nat → Nat → Nat} {cA : Nat → ClassId} {E : State → Prop}
theorem mw_met {d mj : Nat} {as : List mj_V} {h h' : mj_H} {v : Option mj_V} (hmj : mj < 366) (hw : mj_wd as ≤ mw_l mj) (hok : ∀ v ∈ as, mw_vd v) (hh : mw_hv h)
    (body : ∀ (p : Program) (e : Env) (s : State) (m : MethodId) (args : Array Value) (below : List Frame) (meth : Method) (c : Code), mw_cx dC dI cA p s m args meth c mj → E s → mw_W p l e (mw_rm d) s m args below meth c (MQ below (mw_Qc dC dI ad cA E v h') args s 0 0 (mw_A ad)) dC dI ad cA mj (0, mj_args 0 as, [], h)) : Met l (mw_y mj) (mw_wsm mj) (mw_rm d) (mw_Pc dC dI ad cA E as h) (mw_Qc dC dI ad cA E v h') 0 0 (mw_A ad) := by
  obtain ⟨ho, hpl, -⟩ := mw_own_ok mj hmj
  refine Met.ofW (cc := mw_b mj) (maxL := mw_l mj) (ret := mw_r mj) hpl rfl ?_
  intro p e s m args below meth c s₁ B hml hv
  obtain ⟨rfl, hP, hK, hE⟩ := hv
  have hts := atoms_spec (ws := mw_wsm mj) B.pre
  have hown := findClass_of_methodNamed B.named
  have X : mw_cx dC dI cA p s m _ meth c mj := ⟨B.exec, B.bytes, hml, B.returns, B.notSynchronized, by rw [ho]; exact hown, fun w hw => hts w (List.mem_cons_of_mem _ hw), hK⟩
  have hl := lv_entry (as.map (mw_v ad)) (n := mw_l mj) (by rw [mw_sl_len]; exact hw)
  rw [lg_entry_eq]
  generalize (lg_sl (as.map (mw_v ad)) ++ List.replicate (mw_l mj - (lg_sl (as.map (mw_v ad))).length) Slot.unset).toArray = ls at hl ⊢
  rw [mw_args_map] at hl
  exact body p e s m _ below meth c X hE ⟨mw_args_vd as 0 hok, (fun v hv => absurd hv List.not_mem_nil), hh⟩ ls s.heap [] hl hP va_S.rf
theorem mw_blind (hEm : ∀ u U : State, u.WarmedH U.vm → (∀ q, q < u.heap.size → ¬ mw_A ad q → U.heap[q]? = u.heap[q]?) → E u → E U) {as : List mj_V} {h : mj_H} : FrameBlind (mw_Pc dC dI ad cA E as h) := by
  intro a U g mk hp
  obtain ⟨h1, h2, h3, h4⟩ := hp
  exact ⟨h1, h2, mw_K.moved (State.WarmedH.refl U) h3, hEm U _ (State.WarmedH.refl U) (fun q _ _ => rfl) h4⟩
theorem mw_good_good : GoodIn mw_good mw_good := fun w hw => ⟨hw, good_of_word (List.mem_filter.mp hw).2⟩
theorem mw_wsm_good {mj : Nat} (hc : mw_codeC mj ∈ mw_good) : GoodIn mw_good (mw_wsm mj) := by
  intro w hw
  rcases List.mem_cons.mp hw with rfl | hw
  · exact mw_good_good _ hc
  · exact mw_good_good _ hw
end Sound
