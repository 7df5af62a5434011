/-! calls in the main step, and the induction -/
theorem mw_isM_spec {cn x mj : Nat} (h : mw_isM cn x mj = true) : ∃ nest z, (x, mj, nest, z) ∈ mw_ml cn := by
  unfold mw_isM at h
  split at h
  · rename_i r hr
    have h1 := Nat.eq_of_beq_eq_true h
    have hm := mw_find_mem hr
    obtain ⟨r1, r2, r3⟩ := r
    dsimp only at h1
    subst h1
    exact ⟨r2, r3, hm⟩
  · cases h
def mw_MF (mj : Nat) : Prop := mw_codeC mj ∈ mw_good ∧ Cond.initialized (mw_y mj).cls ∈ mw_good ∧ (mw_sta mj = true → Cond.static (mw_y mj) ∈ mw_good) ∧ (mw_sta mj = false → Cond.instanceMethod (mw_y mj) ∈ mw_good ∧ Cond.selects (mw_y mj).cls (mw_y mj) (mw_y mj) ∈ mw_good ∧ (∃ q : vw_C, mw_cl[mw_mc mj - 1]? = some q ∧ q.1 = (mw_y mj).cls) ∧ mw_mc mj < 100)
theorem mw_do_call {g : Bool} {mj kd : Nat} {as : List mj_V} {s : mj_F} {k : mj_F → Option mj_O} {cl : Nat → List mj_V → mj_H → Option mj_O} {r : mj_O} (H : mj_do (some (g, .inr (.inr (.inr (.inl (mj, kd, as, s)))))) k cl = some r) : g = true ∧ mj_ca kd (cl mj as s.2.2.2) k s = some r := by
  cases g
  · simp [mj_do] at H
  · exact ⟨rfl, H⟩
section Sound
variable {l : Launch} {dC : Nat → ClassId} {dI : Nat → Nat → Nat} {ad : Nat → Nat → Nat} {cA : Nat → ClassId} {E : State → Prop}
theorem mw_main_cs (hML : ∀ cn x mj nest z, (x, mj, nest, z) ∈ mw_ml cn → mw_ML cn x mj nest) (hMF : ∀ mj, mj < 366 → mw_MF mj)
    (hEm : ∀ u U : State, u.WarmedH U.vm → (∀ q, q < u.heap.size → ¬ mw_A ad q → U.heap[q]? = u.heap[q]?) → E u → E U)
    {n d mi : Nat} {pc : Nat} {lv : mj_L} {st : List mj_V} {hh : mj_H} {v : Option mj_V} {h' : mj_H} {n9 a b c9 e9 len : Nat} {v9 : Int32} {i : Instr} (hmi : mi < 366) (ha : a < 366) (ih : mw_Main l dC dI ad cA E n) (hd : decode (mw_b mi) pc = .ok (i, len)) (hf : mw_fit mi pc i len (37, n9, a, b, c9, e9, v9) = true)
    (H : mj_do (mo_cs n9 a b c9 v9 lv st hh) (mj_ex mg n d (mt_code mi)) (mj_down (mj_ex mg n) mg d) = some (.inl (v, h')))
    {p : Program} {e : Env} {s : State} {m : MethodId} {args : Array Value} {below : List Frame} {meth : Method} {c : Code} (X : mw_cx dC dI cA p s m args meth c mi) (hE : E s) : mw_W p l e (mw_rm d) s m args below meth c (MQ below (mw_Qc dC dI ad cA E v h') args s 0 0 (mw_A ad)) dC dI ad cA mi (pc, lv, st, hh) := by
  unfold mo_cs at H
  split at H
  · rename_i as r hpop
    obtain ⟨g1, H⟩ := mw_do_call H
    obtain ⟨hst, hlen⟩ := mj_pop_st hpop
    subst hst
    simp only [Bool.and_eq_true, Nat.ble_eq, Nat.beq_eq] at g1
    simp only [mw_fit] at hf
    split at hf <;> simp only [Bool.and_eq_true, Nat.beq_eq, Bool.false_eq_true, Nat.ble_eq] at hf
    rename_i x
    obtain ⟨⟨⟨⟨⟨⟨⟨h1, h2⟩, hm⟩, hs⟩, hb9⟩, hc9⟩, hw⟩, -⟩ := hf
    subst h1 h2
    obtain ⟨nest, z, hin⟩ := mw_isM_spec hm
    have hlink := hML _ _ _ _ _ hin
    obtain ⟨f1, f2, f3, -⟩ := hMF a ha
    cases d with
    | zero => exact (mj_ca_none H).elim
    | succ d =>
      have H : mj_ca c9 (mj_ex mg n d (mt_code a) (0, mj_args 0 as, [], hh)) (mj_ex mg n (d + 1) (mt_code mi)) (pc + 3, lv, r, hh) = some (.inl (v, h')) := H
      cases hx : mj_ex mg n d (mt_code a) (0, mj_args 0 as, [], hh) with
      | none => rw [hx] at H; exact (mj_ca_none H).elim
      | some o =>
        rw [hx] at H
        rcases o with ⟨v1, h1⟩ | q
        · have H := mj_ca_ret H
          intro hok ls HH locs hl hP hS
          have hoa : ∀ w ∈ as, mw_vd w := fun w hw => hok.2.1 w (List.mem_append_left _ (List.mem_reverse.mpr hw))
          have hor : ∀ w ∈ r, mw_vd w := fun w hw => hok.2.1 w (List.mem_append_right _ hw)
          have hM := mw_met (l := l) (dC := dC) (dI := dI) (ad := ad) (cA := cA) (E := E) (d := d) (v := v1) (h' := h1) ha (by rw [g1.2]; exact hw) hoa hok.2.2 (fun p e s m args below meth c X hE => ih d a _ v1 h1 ha hx p e s m args below meth c X hE)
          have hrun := mw_runS (e := e) (below := below) (r := r) X hE hEm hd ha (f3 hs) f2 f1 hlink hM (by rw [hlen, hb9]) g1.1 hl.1 hP hS
          have hst : ((as.reverse ++ r).map (mw_v ad)) = (as.map (mw_v ad)).reverse ++ r.map (mw_v ad) := by simp
          show W _ _ _ _ _ _ _ _ _ _ _ _ _ _ _ (F0 m pc ls ((as.reverse ++ r).map (mw_v ad)))
          rw [hst]
          exact mw_after hrun hS hl hok.1 hor (ih (d + 1) mi _ v h' hmi H p e s m args below meth c X hE)
        · cases mj_ca_thr H
  · simp [mj_do] at H
end Sound
