/-! CONSTRUCTORS: Word.values() (memberships printed by tools/gen_c26.py) -/
theorem c2_vf : Cond.fieldLink "LinkedCores$Word" 73 "LinkedCores$Word" "$VALUES" "[LLinkedCores$Word;" ∈ mw_good := mw_good_of (mw_tm2 (List.mem_of_getElem? (i := 8) rfl)) rfl
theorem c2_vm : Cond.methodLink "LinkedCores$Word" 77 ⟨"[LLinkedCores$Word;", "clone", "()Ljava/lang/Object;"⟩ ∈ mw_good := mw_good_of (mw_tm2 (List.mem_of_getElem? (i := 10) rfl)) rfl
theorem c2_vs : Cond.sameMethod "[LLinkedCores$Word;" "java/lang/Object" "clone" "()Ljava/lang/Object;" ∈ mw_good := mw_good_of (mw_tm2 (List.mem_of_getElem? (i := 11) rfl)) rfl
theorem c2_vn : Cond.native ⟨"java/lang/Object", "clone", "()Ljava/lang/Object;"⟩ ∈ mw_good := mw_good_of (mw_tm2 (List.mem_of_getElem? (i := 12) rfl)) rfl
theorem c2_vi : Cond.instanceMethod ⟨"java/lang/Object", "clone", "()Ljava/lang/Object;"⟩ ∈ mw_good := mw_good_of (mw_tm2 (List.mem_of_getElem? (i := 13) rfl)) rfl
theorem c2_vl : Cond.selects "[LLinkedCores$Word;" ⟨"[LLinkedCores$Word;", "clone", "()Ljava/lang/Object;"⟩ ⟨"java/lang/Object", "clone", "()Ljava/lang/Object;"⟩ ∈ mw_good := mw_good_of (mw_tm2 (List.mem_of_getElem? (i := 14) rfl)) rfl
theorem c2_vk : Cond.classLink "LinkedCores$Word" 78 "[LLinkedCores$Word;" ∈ mw_good := mw_good_of (mw_tm2 (List.mem_of_getElem? (i := 17) rfl)) rfl
def c2_vE (cA : Nat → ClassId) (eA : Nat → Nat) : va_E := .inl (cA 16, 23, .inr (.inr (.inr (.inr (fun i => some (eA i))))))
def c2_vc (cA : Nat → ClassId) (eA : Nat → Nat) : Cell := vp_cell (cA 16) (23, .inr (.inr (.inr (.inr (fun i => some (eA i))))))
theorem c2_vcs (cA : Nat → ClassId) (eA : Nat → Nat) : (c2_vc cA eA).slots.size = 23 := arrV_size (cA 16) 23 (fun j => va_rf (some (eA j)))
section
variable {l : Launch} {dC : Nat → ClassId} {dI : Nat → Nat → Nat} {cA : Nat → ClassId} {eA : Nat → Nat} {B : Nat} {s0 : State}
theorem c2_vmet {vA : Nat} {cV : Cell} (hB : s0.heap.size = B) (hZ : va_Z "LinkedCores$Word" "$VALUES" "[LLinkedCores$Word;" (.ref vA) (c2_A B) s0 s0.heap) (hvc : s0.heap[vA]? = some cV) (hc0 : cV.cls = cA 16) (hvk : ∀ k, cV.vm ≠ .statics k) (hvu : cV.vm ≠ .unknown) (hsl : cV.slots = (c2_vc cA eA).slots) (hcl : va_Nw (.castable "[LLinkedCores$Word;" "java/lang/Cloneable") s0) (hs : List c2_C) :
    Met l c2_vy c2_vws c2_vrm (c2_P dC dI cA eA B s0 [] hs) (va_Qr (S := Unit) (fun _ => True) (fun _ a t => va_P (dC, dI) mw_cl (c2_w B cA eA (hs ++ [(5, 23, [], [])])) t.heap ∧ a = B + hs.length) (c2_A B)) 1 23 (c2_A B) := by
  refine Met.ofW (cc := c2_vb) (maxL := 0) (ret := some (.array (.object "LinkedCores$Word"))) (by decide +kernel) rfl ?_
  intro p e s m args below meth c s₁ Bd hml hv
  obtain ⟨rfl, hP, hsz, hK, hE⟩ := hv
  have hts := atoms_spec (ws := c2_vws) Bd.pre
  have hown : s.vm.findClass "LinkedCores$Word" = some m.cls := findClass_of_methodNamed Bd.named
  have hx := Bd.exec
  have hb : c.code = c2_vb := Bd.bytes
  have hr := Bd.returns
  have hlk := Bd.notSynchronized
  have good : ∀ w ∈ mw_good, w.before _ s = true := fun w hw => hts w (List.mem_cons_of_mem _ hw)
  rw [lg_entry_eq]
  have hlsz : (lg_sl ([] : List Value) ++ List.replicate (0 - (lg_sl ([] : List Value)).length) Slot.unset).toArray.size = 0 := rfl
  generalize (lg_sl ([] : List Value) ++ List.replicate (0 - (lg_sl ([] : List Value)).length) Slot.unset).toArray = ls at hlsz ⊢
  have hZs : va_Z "LinkedCores$Word" "$VALUES" "[LLinkedCores$Word;" (.ref vA) (c2_A B) s s.heap := va_Z.kept (va_Z.moved hE.1.alike hZ) (fun q hq _ => hE.2 q hq)
  refine va_gets (A := c2_A B) hx hb hZs va_S.rf hown (good _ c2_vf) (fun _ h => h) (by decide +kernel : decode c2_vb 0 = .ok (.getstatic 73, 3)) ?_
  have hvl : vA < s0.heap.size := (Array.getElem?_eq_some_iff.mp hvc).1
  have hvs : s.heap[vA]? = some cV := (hE.2 vA hvl).trans hvc
  have hRA := (hK.1.2 6 (cA 16, .object "LinkedCores$Word") rfl)
  have hnm : s.vm.findClass "[LLinkedCores$Word;" = some (cA 16) := by
    obtain ⟨_, _, -, -, -, e1⟩ := hRA.2
    exact e1
  obtain ⟨c0, t0', f1, f2, f3⟩ := Cond.castable_spec (va_Nw.use (A := #[]) rfl (va_Nw.warmC hE.1 hcl))
  cases hnm.symm.trans f1
  have hcE : ({ cls := cV.cls, slots := cV.slots } : Cell) = c2_vc cA eA := by rw [hc0, hsl]; rfl
  have hz23 : cV.slots.size = 23 := by rw [hsl]; exact c2_vcs cA eA
  intro T hT X
  have hvT : T.heap[vA]? = some cV := by rw [hT]; exact hvs
  obtain ⟨-, kA, hkA, comp, hkind⟩ := State.isArrayOf_alike X.warmed.alike (hRA.1 0 (fun _ => .null))
  obtain ⟨-, kS, hkS, compS, hkindS⟩ := hRA.1 0 (fun _ => .null)
  obtain ⟨vm', X', st⟩ := X.cloneArray hx hown (good _ c2_vm) (good _ c2_vs) (good _ c2_vn) (good _ c2_vi) (good _ c2_vl) (a := vA) (cell := cV) hvT hvk hvu (by rw [hc0]; exact hnm) f2 (by rw [hc0]; exact f3)
    (fun i v hv => by
      rw [hc0]
      have hk' : T.vm.classes[cA 16]? = some kA := hkA
      have hf : fits (.object "LinkedCores$Word") v = true := by
        rw [hsl] at hv
        have hv : (Array.ofFn (n := 23) fun j => va_rf (some (eA j.val)))[i]? = some v := hv
        rw [Array.getElem?_ofFn] at hv
        split at hv
        · cases hv; rfl
        · cases hv
      simpa [State.fitsSlot, State.slotType?, hk', hkind] using hf)
    (g := F0 m 3 ls [.ref vA]) rfl (by rw [hml]; exact hlsz) rfl (by rw [hb]; exact (by decide +kernel : decode c2_vb 3 = .ok (.invokevirtual 77, 3))) (by decide) (by show 2 * 0 + 0 + 14 ≤ 60; decide) (by decide) (by rw [hz23]; decide) (hloader := by rw [hc0]; exact Vm.clonesLoader_of_array hkS hkindS)
  rw [hcE, hz23] at X'
  have hz : T.heap.size = B + hs.length := by rw [hT]; exact hsz
  generalize hH1 : s.heap.push (c2_vc cA eA) = H1
  have e1 : H1[s.heap.size]? = some (c2_vc cA eA) := by rw [← hH1, Array.getElem?_push_size]
  have o1 : ∀ q : Nat, q < s.heap.size → H1[q]? = s.heap[q]? := fun q hq => by rw [← hH1, Array.getElem?_push, if_neg (Nat.ne_of_lt hq)]
  have hP1 : va_P (dC, dI) mw_cl (c2_w B cA eA (hs ++ [(5, 23, [], [])])) H1 := by
    rw [c2_wa]
    refine (hP.kept (fun k y hy => o1 y.1 ((hP k y hy).lt))).app (fun k y hy => ?_)
    have hz1 : k < 1 := (List.getElem?_eq_some_iff.mp hy).1
    rw [show k = 0 by omega] at hy
    cases hy
    show H1[B + hs.length]? = some (c2_vc cA eA)
    rw [← hsz]
    exact e1
  have hS1 : va_S (c2_A B) s.heap H1 [] := ⟨by rw [← hH1, Array.size_push]; omega, fun q hq _ => o1 q hq, fun l hl => by cases hl⟩
  have hq9 : (c2_w B cA eA (hs ++ [(5, 23, [], [])]))[hs.length]? = some (B + hs.length, c2_vE cA eA) := by
    rw [c2_wa, List.getElem?_append_right (by rw [c2_wl]; exact Nat.le_refl _), c2_wl, Nat.sub_self]; rfl
  have w9 : W p l e c2_vrm s m #[] below meth c H1 [] (0 + 1) (0 + 23) (MQ below (va_Qr (S := Unit) (fun _ => True) (fun _ a t => va_P (dC, dI) mw_cl (c2_w B cA eA (hs ++ [(5, 23, [], [])])) t.heap ∧ a = B + hs.length) (c2_A B)) #[] s (0 + 1) (0 + 23) (c2_A B)) (F0 m 6 ls [.ref (B + hs.length)]) := by
    refine va_castA (nm := "[LLinkedCores$Word;") hx hb hown (good _ c2_vk) hP1 hs.length hq9 hnm (by decide +kernel : decode c2_vb 6 = .ok (.checkcast 78, 3)) ?_
    exact W.aret hx hb hr (Or.inr ⟨_, rfl⟩) (Or.inr ⟨_, rfl⟩) (fun t ht hW => ⟨⟨(), B + hs.length, rfl, trivial, (show va_P (dC, dI) mw_cl (c2_w B cA eA (hs ++ [(5, 23, [], [])])) t.heap from ht ▸ hP1), rfl⟩, hS1.F ht⟩) (fun q hq => by cases hq) (by decide +kernel : decode c2_vb 9 = .ok (.areturn, 1)) hlk
  obtain ⟨t, b1, b2⟩ := w9 ((T.setVm vm').pushCell (c2_vc cA eA)) (by rw [← hH1, ← hT]; rfl) X'
  refine ⟨t, st t ?_, b2⟩
  rw [hcE, hz]
  exact b1
end
