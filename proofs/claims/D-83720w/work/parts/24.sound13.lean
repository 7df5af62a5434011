/-! calls -/
theorem mw_maxl : ∀ mi, mi < 369 → 8 + (mw_l mi + 11) ≤ 32 := by decide +kernel
theorem mj_pop_spec : ∀ (k : Nat) (acc st as r : List mj_V), mj_pop k acc st = some (as, r) → ∃ ys : List mj_V, as = ys.reverse ++ acc ∧ st = ys ++ r ∧ ys.length = k
  | 0, acc, st, as, r, h => by
    cases Option.some.inj h
    exact ⟨[], rfl, rfl, rfl⟩
  | k + 1, acc, [], as, r, h => by cases h
  | k + 1, acc, v :: st, as, r, h => by
    obtain ⟨ys, h1, h2, h3⟩ := mj_pop_spec k (v :: acc) st as r h
    exact ⟨v :: ys, by simp [h1], by simp [h2], by simp [h3]⟩
theorem mj_pop_st {k : Nat} {st as r : List mj_V} (h : mj_pop k [] st = some (as, r)) : st = as.reverse ++ r ∧ as.length = k := by
  obtain ⟨ys, h1, h2, h3⟩ := mj_pop_spec k [] st as r h
  rw [List.append_nil] at h1
  exact ⟨by rw [h1, List.reverse_reverse]; exact h2, by rw [h1, List.length_reverse]; exact h3⟩
theorem mw_wd_sum (ad : Nat → Nat → Nat) : ∀ r : List mj_V, ((r.map (mw_v ad)).map fun v => v.category).sum = mj_wd r
  | [] => rfl
  | v :: r => by simp only [List.map_cons, List.sum_cons, mw_cat_v, mj_wd, mw_wd_sum ad r]
/-- what the lists promise of a link to a method -/
def mw_ML (cn x mj nest : Nat) : Prop := (nest = 0 → Cond.methodLink (mw_on cn) x (mw_y mj) ∈ mw_good) ∧ (nest ≠ 0 → Cond.methodLinkNest (mw_on cn) x (mw_y mj) "LinkedCores" ∈ mw_nst)
section Sound
variable {p : Program} {l : Launch} {e : Env} {s : State} {m : MethodId} {args : Array Value} {below : List Frame} {meth : Method} {c : Code} {dC : Nat → ClassId} {dI : Nat → Nat → Nat} {ad : Nat → Nat → Nat} {cA : Nat → ClassId} {E : State → Prop} {mi d pc x mj nest : Nat} {as r : List mj_V} {h h' : mj_H} {v : Option mj_V} {ls : Array Slot} {H : Heap} {locs : List Loc}
theorem mw_runS (X : mw_cx dC dI cA p s m args meth c mi) (hE : E s) (hEm : ∀ u U : State, u.WarmedH U.vm → (∀ q, q < u.heap.size → ¬ mw_A ad q → U.heap[q]? = u.heap[q]?) → E u → E U) (hd : decode (mw_b mi) pc = .ok (.invokestatic x, 3)) (hmj : mj < 366) (hst : Cond.static (mw_y mj) ∈ mw_good) (hini : Cond.initialized (mw_y mj).cls ∈ mw_good) (hcode : mw_codeC mj ∈ mw_good) (hlink : mw_ML (mw_mc mi) x mj nest)
    (hM : Met l (mw_y mj) (mw_wsm mj) (mw_rm d) (mw_Pc dC dI ad cA E as h) (mw_Qc dC dI ad cA E v h') 0 0 (mw_A ad)) (hlen : as.length = mw_na mj) (hr8 : mj_wd r ≤ 8) (hls : ls.size = mw_l mi) (hP : va_P (dC, dI) mw_cl (mw_ws ad cA h) H) (hS : va_S (mw_A ad) s.heap H locs) :
    va_Run p l e (mw_rm (d + 1)) s m args below meth c H locs 0 0 0 0 (F0 m pc ls ((as.map (mw_v ad)).reverse ++ r.map (mw_v ad))) (r.map (mw_v ad)) (mw_Qc dC dI ad cA E v h' (as.map (mw_v ad)).toArray) (mw_A ad) := by
  obtain ⟨hx, hb, hml, -, -, hown, hts, hK⟩ := X
  have hpre : PreS s H (mw_Pc dC dI ad cA E as h) (as.map (mw_v ad)) := ⟨mw_blind hEm, fun U hU hW => ⟨rfl, by rw [hU]; exact hP, mw_K.moved hW hK, hEm s U hW (fun q h1 h2 => by rw [hU]; exact hS.2.1 q h1 h2) hE⟩⟩
  have hloc := mw_maxl mj (by omega)
  have hR : (mw_rm d).frames + 1 ≤ (mw_rm (d + 1)).frames ∧ 8 + (mw_l mj + 11) + (mw_rm d).locals ≤ (mw_rm (d + 1)).locals := ⟨by simp only [mw_rm]; omega, by simp only [mw_rm]; omega⟩
  have hW8 : 2 * (F0 m pc ls ((as.map (mw_v ad)).reverse ++ r.map (mw_v ad))).monitorRoom + ((r.map (mw_v ad)).map fun v => v.category).sum ≤ 8 := lv_room (by rw [mw_wd_sum]; exact hr8)
  by_cases h0 : nest = 0
  · exact va_runS ⟨hx, hb, hml, hown, hts⟩ hM ⟨callB_of (mw_na mj) hts (mw_wsm_good hcode) rfl rfl rfl (hts _ hini) (hts _ (hlink.1 h0)) (mw_own_ok mj hmj).2.2 hR, hts _ hst⟩ hpre rfl (by simp [hlen]) hls rfl hW8 hd ⟨Nat.le_refl _, Nat.le_refl _⟩
  · exact va_runSN ⟨hx, hb, hml, hown, hts⟩ hM ⟨va_cnB (mw_na mj) hts (mw_wsm_good hcode) rfl rfl rfl (hK.2 _ (hlink.2 h0)) (hts _ hini) (mw_own_ok mj hmj).2.2 hR, hts _ hst, trivial⟩ hpre rfl (by simp [hlen]) hls rfl hW8 hd ⟨Nat.le_refl _, Nat.le_refl _⟩
theorem mw_runV (X : mw_cx dC dI cA p s m args meth c mi) (hE : E s) (hEm : ∀ u U : State, u.WarmedH U.vm → (∀ q, q < u.heap.size → ¬ mw_A ad q → U.heap[q]? = u.heap[q]?) → E u → E U) (hd : decode (mw_b mi) pc = .ok (.invokevirtual x, 3)) (hmj : mj < 366) (hin : Cond.instanceMethod (mw_y mj) ∈ mw_good) (hsel : Cond.selects (mw_y mj).cls (mw_y mj) (mw_y mj) ∈ mw_good) (hini : Cond.initialized (mw_y mj).cls ∈ mw_good) (hcode : mw_codeC mj ∈ mw_good) (hlink : mw_ML (mw_mc mi) x mj nest) {g k : Nat} (hg : (g, k) ∈ mw_val) (hgi : mo_is mg (mw_mc mj) g = true) (hcl : ∃ q : vw_C, mw_cl[mw_mc mj - 1]? = some q ∧ q.1 = (mw_y mj).cls) (hcl9 : mw_mc mj < 100)
    (hM : Met l (mw_y mj) (mw_wsm mj) (mw_rm d) (mw_Pc dC dI ad cA E (.inr (.inr (g, k)) :: as) h) (mw_Qc dC dI ad cA E v h') 0 0 (mw_A ad)) (hlen : as.length = mw_na mj) (hr8 : mj_wd r ≤ 8) (hls : ls.size = mw_l mi) (hP : va_P (dC, dI) mw_cl (mw_ws ad cA h) H) (hS : va_S (mw_A ad) s.heap H locs) :
    va_Run p l e (mw_rm (d + 1)) s m args below meth c H locs 0 0 0 0 (F0 m pc ls ((as.map (mw_v ad)).reverse ++ .ref (ad g k) :: r.map (mw_v ad))) (r.map (mw_v ad)) (mw_Qc dC dI ad cA E v h' (Value.ref (ad g k) :: as.map (mw_v ad)).toArray) (mw_A ad) := by
  obtain ⟨hx, hb, hml, -, -, hown, hts, hK⟩ := X
  obtain ⟨h1, h2⟩ := mw_is_spec hgi
  have hall := mw_val_all (g, k) hg h1 (by rw [h2]; exact hcl9)
  have he := mw_at (ad := ad) (cA := cA) (h := h) hall
  dsimp only at he
  rw [mw_cell_obj h1 h2] at he
  obtain ⟨q, hq, hqc⟩ := hcl
  have hrecv := va_recv hK.1 hP hq he
  rw [hqc] at hrecv
  have hpre : PreV s H (mw_y mj).cls (ad g k) (mw_Pc dC dI ad cA E (.inr (.inr (g, k)) :: as) h) (as.map (mw_v ad)) := ⟨mw_blind hEm, hrecv, fun U hU hW => ⟨rfl, by rw [hU]; exact hP, mw_K.moved hW hK, hEm s U hW (fun q h1 h2 => by rw [hU]; exact hS.2.1 q h1 h2) hE⟩⟩
  have hloc := mw_maxl mj (by omega)
  have hR : (mw_rm d).frames + 1 ≤ (mw_rm (d + 1)).frames ∧ 8 + (mw_l mj + 11) + (mw_rm d).locals ≤ (mw_rm (d + 1)).locals := ⟨by simp only [mw_rm]; omega, by simp only [mw_rm]; omega⟩
  have hW8 : 2 * (F0 m pc ls ((as.map (mw_v ad)).reverse ++ .ref (ad g k) :: r.map (mw_v ad))).monitorRoom + ((r.map (mw_v ad)).map fun v => v.category).sum ≤ 8 := lv_room (by rw [mw_wd_sum]; exact hr8)
  by_cases h0 : nest = 0
  · exact va_runV ⟨hx, hb, hml, hown, hts⟩ hM ⟨callB_of (mw_na mj) hts (mw_wsm_good hcode) rfl rfl rfl (hts _ hini) (hts _ (hlink.1 h0)) (mw_own_ok mj hmj).2.2 hR, hts _ hin, hts _ hsel⟩ hpre rfl (by simp [hlen]) hls rfl hW8 hd ⟨Nat.le_refl _, Nat.le_refl _⟩
  · exact va_runVN ⟨hx, hb, hml, hown, hts⟩ hM ⟨va_cnB (mw_na mj) hts (mw_wsm_good hcode) rfl rfl rfl (hK.2 _ (hlink.2 h0)) (hts _ hini) (mw_own_ok mj hmj).2.2 hR, hts _ hin, hts _ hsel⟩ hpre rfl (by simp [hlen]) hls rfl hW8 hd ⟨Nat.le_refl _, Nat.le_refl _⟩
end Sound
