/-! String.indexOf over the program's texts -/
theorem mw_b8 : ∀ v, v < 128 → (nI v).toInt8.toInt32 = nI v := by decide +kernel
theorem mw_sln_pos : ∀ k, k < 27 → 0 < mt_sln k := by decide +kernel
theorem mw_ix_eq {c : Int32} (h0 : ¬ c < 0) (h1 : ¬ 255 < c) {v : Nat} (hv : v < 128) : nI v = c.toInt8.toInt32 ↔ c = nI v := by
  obtain ⟨w, hw, rfl⟩ := nI_of h0
  have hw2 : w ≤ 255 := by
    have := nI_ltI (a := 255) (b := w) (by omega) hw
    have e : nI 255 = 255 := rfl
    rw [e] at this
    exact Nat.not_lt.mp (fun q => h1 (this.mpr q))
  have e1 := sc_eq (b := nI v) (mw_b8 v hv) (n := w) (by omega)
  have e2 : nI v &&& 255 = nI v := by rw [pk_andN (n := v) (by omega) 8 (by decide), Nat.mod_eq_of_lt (by omega)]
  rw [e1, e2]
  exact eq_comm
theorem mw_ix_out {f : Nat → Nat} {c : Int32} : ∀ (n i : Nat), (∀ j, i ≤ j → j < i + n → c ≠ nI (f j)) → mj_ix f c n i = -1
  | 0, _, _ => rfl
  | n + 1, i, h => by
    unfold mj_ix
    rw [if_neg (h i (Nat.le_refl i) (by omega))]
    exact mw_ix_out n (i + 1) (fun j a b => h j (by omega) (by omega))
theorem mw_Wv {p : Program} {l : Launch} {e : Env} {R : Room} {s : State} {m : MethodId} {args : Array Value} {below : List Frame} {meth : Method} {c : Code} {H : Heap} {locs : List Loc} {cells slots : Nat} {Q : State → Prop} {pc : Nat} {ls : Array Slot} {rest : List Value} {x y : Int32} (e9 : x = y) (k : W p l e R s m args below meth c H locs cells slots Q (F0 m pc ls (.int y :: rest))) : W p l e R s m args below meth c H locs cells slots Q (F0 m pc ls (.int x :: rest)) := by rw [e9]; exact k
section JDK
variable {l : Launch} {dC : Nat → ClassId} {dI : Nat → Nat → Nat} {ad : Nat → Nat → Nat} {aV : Nat → Nat} {cA : Nat → ClassId} {E : State → Prop} {h : mj_H}
theorem jd_can1 (hEm : mw_EmP ad E) (hh : mw_hv h) {c0 : Int32} (h0 : ¬ c0 < 0) (h1 : ¬ 255 < c0) : Met l ⟨"java/lang/StringLatin1", "canEncode", "(I)Z"⟩ (jw ⟨"java/lang/StringLatin1", "canEncode", "(I)Z"⟩ prog_28_method_4_code 1 (Option.some Jvm.ClassFile.FieldType.boolean)) (jr 0) (mw_PV dC dI ad cA E [.int c0] h) (mw_Qc dC dI ad cA E (some (.inl 1)) h) 0 0 (mw_A ad) := by
  refine mw_metJ (by decide +kernel) (by show 1 ≤ 1; decide) ?_
  intro p e s m args below meth c X hE hP ls hl
  have Y := X
  obtain ⟨hx, hb, -, -, -, hown, hts, -⟩ := X
  have hS : va_S (mw_A ad) s.heap s.heap [] := va_S.rf
  refine lv_iload_n (k := 0) hx hb (by decide +kernel) rfl (lv_at hl 0 rfl) ?_
  refine lv_if_lt (tgt := 15) hx hb (off := 14) (by decide +kernel) (by decide) (fun q => absurd q h0) (fun _ => ?_)
  refine lv_iload_n (k := 0) hx hb (by decide +kernel) rfl (lv_at hl 0 rfl) ?_
  refine lv_sipush (n := 255) (v := 255) hx hb (by decide +kernel) (by decide +kernel) ?_
  refine lv_icmp_gt (tgt := 15) hx hb (off := 7) (by decide +kernel) (by decide) (fun q => absurd q h1) (fun _ => ?_)
  refine lv_iconst (n := 1) hx hb (by decide +kernel) rfl ?_
  refine lv_goto (tgt := 16) hx hb (off := 4) (by decide +kernel) (by decide) ?_
  exact mw_jret Y hE hEm hh (by decide +kernel) hP hS (by decide +kernel)
theorem jd_can0 (hEm : mw_EmP ad E) (hh : mw_hv h) {c0 : Int32} (h0 : c0 < 0 ∨ 255 < c0) : Met l ⟨"java/lang/StringLatin1", "canEncode", "(I)Z"⟩ (jw ⟨"java/lang/StringLatin1", "canEncode", "(I)Z"⟩ prog_28_method_4_code 1 (Option.some Jvm.ClassFile.FieldType.boolean)) (jr 0) (mw_PV dC dI ad cA E [.int c0] h) (mw_Qc dC dI ad cA E (some (.inl 0)) h) 0 0 (mw_A ad) := by
  refine mw_metJ (by decide +kernel) (by show 1 ≤ 1; decide) ?_
  intro p e s m args below meth c X hE hP ls hl
  have Y := X
  obtain ⟨hx, hb, -, -, -, hown, hts, -⟩ := X
  have hS : va_S (mw_A ad) s.heap s.heap [] := va_S.rf
  have fin : W p l e (jr 0) s m args below meth c s.heap [] 0 0 (MQ below (mw_Qc dC dI ad cA E (some (.inl 0)) h) args s 0 0 (mw_A ad)) (F0 m 15 ls []) := by
    refine lv_iconst (n := 0) hx hb (by decide +kernel) rfl ?_
    exact mw_jret Y hE hEm hh (by decide +kernel) hP hS (by decide +kernel)
  refine lv_iload_n (k := 0) hx hb (by decide +kernel) rfl (lv_at hl 0 rfl) ?_
  refine lv_if_lt (tgt := 15) hx hb (off := 14) (by decide +kernel) (by decide) (fun _ => fin) (fun q => ?_)
  refine lv_iload_n (k := 0) hx hb (by decide +kernel) rfl (lv_at hl 0 rfl) ?_
  refine lv_sipush (n := 255) (v := 255) hx hb (by decide +kernel) (by decide +kernel) ?_
  exact lv_icmp_gt (tgt := 15) hx hb (off := 7) (by decide +kernel) (by decide) (fun _ => fin) (fun q2 => absurd h0 (fun z => z.elim q q2))
theorem jd_ixChar (hEE : mw_ee ad aV E) (hEm : mw_EmP ad E) (hh : mw_hv h) {k : Nat} {c0 : Int32} (hk : k < 27) (h0 : ¬ c0 < 0) (h1 : ¬ 255 < c0) : Met l ⟨"java/lang/StringLatin1", "indexOfChar", "([BIII)I"⟩ (jw ⟨"java/lang/StringLatin1", "indexOfChar", "([BIII)I"⟩ prog_28_method_23_code 6 (Option.some Jvm.ClassFile.FieldType.int)) (jr 0) (mw_PV dC dI ad cA E [.ref (aV k), .int c0, .int 0, .int (nI (mt_sln k))] h) (mw_Qc dC dI ad cA E (some (.inl (mj_ix (mt_sch k) c0 (mt_sln k) 0))) h) 0 0 (mw_A ad) := by
  refine mw_metJ (by decide +kernel) (by show 4 ≤ 6; decide) ?_
  intro p e s m args below meth c X hE hP ls hl
  have Y := X
  obtain ⟨hx, hb, -, -, -, hown, hts, -⟩ := X
  obtain ⟨-, e2, -⟩ := hEE s hE
  have hS : va_S (mw_A ad) s.heap s.heap [] := va_S.rf
  have hn := mw_sln_lt k hk
  refine lv_iload_n (k := 1) hx hb (by decide +kernel) rfl (lv_at hl 1 rfl) ?_
  refine lv_i2b hx hb (by decide +kernel) rfl ?_
  refine lv_istore (i := 4) hx hb (by decide +kernel) hl (by decide) rfl (fun ls1 hl1 => ?_)
  refine lv_iload_n (k := 2) hx hb (by decide +kernel) rfl (lv_at hl1 3 rfl) ?_
  refine lv_istore (i := 5) hx hb (by decide +kernel) hl1 (by decide) rfl (fun ls2 hl2 => ?_)
  have key : ∀ (n i : Nat) (ls : Array Slot), i + n = mt_sln k → lv_has ls 6 [(5, .int (nI i)), (4, .int c0.toInt8.toInt32), (0, .ref (aV k)), (1, .int c0), (2, .int 0), (3, .int (nI (mt_sln k)))] →
      W p l e (jr 0) s m args below meth c s.heap [] 0 0 (MQ below (mw_Qc dC dI ad cA E (some (.inl (mj_ix (mt_sch k) c0 n i))) h) args s 0 0 (mw_A ad)) (F0 m 7 ls []) := by
    intro n
    induction n with
    | zero =>
      intro i ls hi hl
      refine lv_iload hx hb (by decide +kernel) (lv_at hl 0 rfl) ?_
      refine lv_iload_n (k := 3) hx hb (by decide +kernel) rfl (lv_at hl 5 rfl) ?_
      refine lv_icmp_ge (tgt := 31) hx hb (off := 21) (by decide +kernel) (by decide) (fun _ => ?_) (fun q => absurd (nI_le (by omega) (by omega)) q)
      refine lv_iconst (n := -1) hx hb (by decide +kernel) rfl ?_
      exact mw_jret Y hE hEm hh rfl hP hS (by decide +kernel)
    | succ n ih =>
      intro i ls hi hl
      have hlt : i < mt_sln k := by omega
      refine lv_iload hx hb (by decide +kernel) (lv_at hl 0 rfl) ?_
      refine lv_iload_n (k := 3) hx hb (by decide +kernel) rfl (lv_at hl 5 rfl) ?_
      refine lv_icmp_ge (tgt := 31) hx hb (off := 21) (by decide +kernel) (by decide) (fun q => absurd q (nI_ge hlt (by omega))) (fun _ => ?_)
      refine lv_aload_n (k := 0) hx hb (by decide +kernel) rfl (lv_at hl 2 rfl) ?_
      refine lv_iload hx hb (by decide +kernel) (lv_at hl 0 rfl) ?_
      refine va_tb hx hb (e2 k hk).2.2.2 hS (nI_in hlt (by omega)) (v := .int (nI (mt_sch k i))) (by rw [nI_clamp (by omega)]) (by decide +kernel) ?_
      refine lv_iload hx hb (by decide +kernel) (lv_at hl 1 rfl) ?_
      have hq := mw_ix_eq h0 h1 (mw_sch_lt k hk i hlt).1
      refine lv_icmp_ne (tgt := 25) hx hb (off := 6) (by decide +kernel) (by decide) (fun q => ?_) (fun q => ?_)
      · have e9 : mj_ix (mt_sch k) c0 (n + 1) i = mj_ix (mt_sch k) c0 n (i + 1) := by
          show (if c0 = nI (mt_sch k i) then nI i else mj_ix (mt_sch k) c0 n (i + 1)) = _
          rw [if_neg (fun z => q (hq.mpr z))]
        rw [e9]
        refine lv_iinc (i := 5) (k := 0) (n := 1) (v := nI (i + 1)) hx hb (by decide +kernel) hl rfl (by rw [nI_succ]; rfl) (by decide) rfl (fun ls3 hl3 => ?_)
        refine lv_goto (tgt := 7) hx hb (off := -21) (by decide +kernel) (by decide) ?_
        exact ih (i + 1) ls3 (by omega) hl3
      · have e9 : mj_ix (mt_sch k) c0 (n + 1) i = nI i := by
          show (if c0 = nI (mt_sch k i) then nI i else mj_ix (mt_sch k) c0 n (i + 1)) = _
          rw [if_pos (hq.mp q)]
        rw [e9]
        refine lv_iload hx hb (by decide +kernel) (lv_at hl 0 rfl) ?_
        exact mw_jret Y hE hEm hh rfl hP hS (by decide +kernel)
  exact key (mt_sln k) 0 ls2 (by omega) hl2
theorem jd_lindexOf (hEE : mw_ee ad aV E) (hEm : mw_EmP ad E) (hh : mw_hv h) {k : Nat} {c0 : Int32} (hk : k < 27) : Met l ⟨"java/lang/StringLatin1", "indexOf", "([BIII)I"⟩ (jw ⟨"java/lang/StringLatin1", "indexOf", "([BIII)I"⟩ prog_28_method_22_code 4 (Option.some Jvm.ClassFile.FieldType.int)) (jr 1) (mw_PV dC dI ad cA E [.ref (aV k), .int c0, .int 0, .int (nI (mt_sln k))] h) (mw_Qc dC dI ad cA E (some (.inl (mj_ix (mt_sch k) c0 (mt_sln k) 0))) h) 0 0 (mw_A ad) := by
  refine mw_metJ (by decide +kernel) (by show 4 ≤ 4; decide) ?_
  intro p e s m args below meth c X hE hP ls hl
  have Y := X
  obtain ⟨hx, hb, hml, -, -, hown, hts, hK⟩ := X
  obtain ⟨-, e2, -⟩ := hEE s hE
  have hS : va_S (mw_A ad) s.heap s.heap [] := va_S.rf
  have hn := mw_sln_lt k hk
  have hp := mw_sln_pos k hk
  refine lv_iload_n (k := 1) hx hb (by decide +kernel) rfl (lv_at hl 1 rfl) ?_
  by_cases hc : c0 < 0 ∨ 255 < c0
  · have e9 : mj_ix (mt_sch k) c0 (mt_sln k) 0 = -1 := by
      refine mw_ix_out _ _ (fun j _ hj e => ?_)
      have hv := (mw_sch_lt k hk j (by omega)).1
      subst e
      rcases hc with hc | hc
      · exact nI_pos (by omega) hc
      · have e5 : (255 : Int32) = nI 255 := rfl
        rw [e5, nI_ltI (by omega) (by omega)] at hc
        omega
    rw [e9]
    refine mw_jafter (rest := []) (mw_jrunS (As := [.int c0]) (cc := prog_28_method_22_code) (own := "java/lang/StringLatin1") ⟨hx, hb, hml, hown, hts, hK⟩ hE hEm (jd_can0 hEm hh hc) ⟨rfl, rfl⟩ (mw_good_of (mw_tm11 (List.mem_of_getElem? (i := 5) rfl)) rfl) (mw_good_of (mw_tm11 (List.mem_of_getElem? (i := 4) rfl)) rfl) (mw_good_of (mw_tm1 (List.mem_of_getElem? (i := 22) rfl)) rfl) (mw_good_of (mw_tm11 (List.mem_of_getElem? (i := 3) rfl)) rfl) (n := 1) (by decide +kernel) rfl (by decide) (by show 0 ≤ 8; decide) hl.1 (by decide +kernel) hP hS) hS ?_
    intro H1 locs1 hP1 hS1
    refine lv_if_ne (tgt := 9) hx hb (off := 5) (by decide +kernel) (by decide) (fun q => absurd rfl q) (fun _ => ?_)
    refine lv_iconst (n := -1) hx hb (by decide +kernel) rfl ?_
    exact mw_jret Y hE hEm hh rfl hP1 hS1 (by decide +kernel)
  · have hc0 : ¬ c0 < 0 := fun q => hc (Or.inl q)
    have hc1 : ¬ 255 < c0 := fun q => hc (Or.inr q)
    refine mw_jafter (rest := []) (mw_jrunS (As := [.int c0]) (cc := prog_28_method_22_code) (own := "java/lang/StringLatin1") ⟨hx, hb, hml, hown, hts, hK⟩ hE hEm (jd_can1 hEm hh hc0 hc1) ⟨rfl, rfl⟩ (mw_good_of (mw_tm11 (List.mem_of_getElem? (i := 5) rfl)) rfl) (mw_good_of (mw_tm11 (List.mem_of_getElem? (i := 4) rfl)) rfl) (mw_good_of (mw_tm1 (List.mem_of_getElem? (i := 22) rfl)) rfl) (mw_good_of (mw_tm11 (List.mem_of_getElem? (i := 3) rfl)) rfl) (n := 1) (by decide +kernel) rfl (by decide) (by show 0 ≤ 8; decide) hl.1 (by decide +kernel) hP hS) hS ?_
    intro H1 locs1 hP1 hS1
    refine lv_if_ne (tgt := 9) hx hb (off := 5) (by decide +kernel) (by decide) (fun _ => ?_) (fun q => absurd q (by decide))
    refine lv_iload_n (k := 2) hx hb (by decide +kernel) rfl (lv_at hl 2 rfl) ?_
    refine lv_iconst (n := 0) hx hb (by decide +kernel) rfl ?_
    refine va_mmax hx hb (hml.trans hl.1.symm) hown (hts _ (mw_good_of (mw_tm11 (List.mem_of_getElem? (i := 6) rfl)) rfl)) (hts _ (mw_good_of (mw_tm5 (List.mem_of_getElem? (i := 222) rfl)) rfl)) (hts _ (mw_good_of (mw_tm1 (List.mem_of_getElem? (i := 27) rfl)) rfl)) (hts _ (mw_good_of (mw_tm5 (List.mem_of_getElem? (i := 223) rfl)) rfl)) (by decide) (by decide) (Nat.zero_le _) (Nat.zero_le _) (by decide +kernel) ?_
    refine mw_Wv (y := 0) (by decide) ?_
    refine lv_istore_n (k := 2) (i := 2) hx hb (by decide +kernel) rfl hl (by decide) rfl (fun ls1 hl1 => ?_)
    refine lv_iload_n (k := 3) hx hb (by decide +kernel) rfl (lv_at hl1 3 rfl) ?_
    refine lv_aload_n (k := 0) hx hb (by decide +kernel) rfl (lv_at hl1 1 rfl) ?_
    refine va_tlen hx hb (e2 k hk).2.2.2 hS1 rfl (by decide +kernel) ?_
    refine va_mmin hx hb (hml.trans hl1.1.symm) hown (hts _ (mw_good_of (mw_tm11 (List.mem_of_getElem? (i := 7) rfl)) rfl)) (hts _ (mw_good_of (mw_tm6 (List.mem_of_getElem? (i := 45) rfl)) rfl)) (hts _ (mw_good_of (mw_tm1 (List.mem_of_getElem? (i := 27) rfl)) rfl)) (hts _ (mw_good_of (mw_tm6 (List.mem_of_getElem? (i := 46) rfl)) rfl)) (by decide) (by decide) (Nat.zero_le _) (Nat.zero_le _) (by decide +kernel) ?_
    refine mw_Wv (y := nI (mt_sln k)) (ite_self _) ?_
    refine lv_istore_n (k := 3) (i := 3) (lv' := [(3, .int (nI (mt_sln k))), (2, .int 0), (0, .ref (aV k)), (1, .int c0)]) hx hb (by decide +kernel) rfl hl1 (by decide) rfl (fun ls2 hl2 => ?_)
    refine lv_iload_n (k := 2) hx hb (by decide +kernel) rfl (lv_at hl2 1 rfl) ?_
    refine lv_iload_n (k := 3) hx hb (by decide +kernel) rfl (lv_at hl2 0 rfl) ?_
    refine lv_icmp_lt (tgt := 29) hx hb (off := 5) (by decide +kernel) (by decide) (fun _ => ?_) (fun q => absurd (by have := nI_lt hp (by omega : mt_sln k < 2 ^ 31); exact this) q)
    refine lv_aload_n (k := 0) hx hb (by decide +kernel) rfl (lv_at hl2 2 rfl) ?_
    refine lv_iload_n (k := 1) hx hb (by decide +kernel) rfl (lv_at hl2 3 rfl) ?_
    refine lv_iload_n (k := 2) hx hb (by decide +kernel) rfl (lv_at hl2 1 rfl) ?_
    refine lv_iload_n (k := 3) hx hb (by decide +kernel) rfl (lv_at hl2 0 rfl) ?_
    refine mw_jafter (rest := []) (mw_jrunS (As := [.ref (aV k), .int c0, .int 0, .int (nI (mt_sln k))]) (cc := prog_28_method_22_code) (own := "java/lang/StringLatin1") ⟨hx, hb, hml, hown, hts, hK⟩ hE hEm (jd_ixChar hEE hEm hh hk hc0 hc1) ⟨rfl, rfl⟩ (mw_good_of (mw_tm11 (List.mem_of_getElem? (i := 10) rfl)) rfl) (mw_good_of (mw_tm11 (List.mem_of_getElem? (i := 9) rfl)) rfl) (mw_good_of (mw_tm1 (List.mem_of_getElem? (i := 22) rfl)) rfl) (mw_good_of (mw_tm11 (List.mem_of_getElem? (i := 8) rfl)) rfl) (n := 4) (by decide +kernel) rfl (by decide) (by show 0 ≤ 8; decide) hl2.1 (by decide +kernel) hP1 hS1) hS1 ?_
    intro H2 locs2 hP2 hS2
    exact mw_jret Y hE hEm hh rfl hP2 hS2 (by decide +kernel)
theorem jd_indexOf2 (hEE : mw_ee ad aV E) (hEm : mw_EmP ad E) (hh : mw_hv h) {k : Nat} {c0 : Int32} (hk : k < 27) : Met l ⟨"java/lang/String", "indexOf", "(II)I"⟩ (jw ⟨"java/lang/String", "indexOf", "(II)I"⟩ prog_27_method_80_code 3 (Option.some Jvm.ClassFile.FieldType.int)) (jr 2) (mw_PV dC dI ad cA E [.ref (ad 9 k), .int c0, .int 0] h) (mw_Qc dC dI ad cA E (some (.inl (mj_ix (mt_sch k) c0 (mt_sln k) 0))) h) 0 0 (mw_A ad) := by
  refine mw_metJ (by decide +kernel) (by show 3 ≤ 3; decide) ?_
  intro p e s m args below meth c X hE hP ls hl
  have Y := X
  obtain ⟨hx, hb, hml, -, -, hown, hts, hK⟩ := X
  obtain ⟨-, e2, -⟩ := hEE s hE
  have hS : va_S (mw_A ad) s.heap s.heap [] := va_S.rf
  refine lv_aload_n (k := 0) hx hb (by decide +kernel) rfl (lv_at hl 0 rfl) ?_
  refine mw_jafter (rest := []) (mw_jrunV (As := []) (b := ad 9 k) (cc := prog_27_method_80_code) (own := "java/lang/String") ⟨hx, hb, hml, hown, hts, hK⟩ hE hEm (jd_isLatin1 hEE hEm hh hk) ⟨rfl, rfl⟩ (mw_good_of (mw_tm4 (List.mem_of_getElem? (i := 13) rfl)) rfl) (mw_good_of (mw_tm4 (List.mem_of_getElem? (i := 11) rfl)) rfl) (mw_good_of (mw_tm4 (List.mem_of_getElem? (i := 12) rfl)) rfl) (mw_good_of (mw_tm1 (List.mem_of_getElem? (i := 21) rfl)) rfl) (mw_good_of (mw_tm4 (List.mem_of_getElem? (i := 10) rfl)) rfl) (e2 k hk).1 (n := 0) (by decide +kernel) rfl (by decide) (by show 0 ≤ 8; decide) hl.1 (by decide +kernel) hP hS) hS ?_
  intro H1 locs1 hP1 hS1
  refine lv_if_eq (tgt := 23) hx hb (off := 19) (by decide +kernel) (by decide) (fun q => absurd q (by decide)) (fun _ => ?_)
  refine lv_aload_n (k := 0) hx hb (by decide +kernel) rfl (lv_at hl 0 rfl) ?_
  refine vk_getf hx hb (e2 k hk).2.2.1 hS1 hown (hts _ (mw_good_of (mw_tm13 (List.mem_of_getElem? (i := 130) rfl)) rfl)) (fun _ q => q) (by decide +kernel) ?_
  refine lv_iload_n (k := 1) hx hb (by decide +kernel) rfl (lv_at hl 1 rfl) ?_
  refine lv_iload_n (k := 2) hx hb (by decide +kernel) rfl (lv_at hl 2 rfl) ?_
  refine lv_aload_n (k := 0) hx hb (by decide +kernel) rfl (lv_at hl 0 rfl) ?_
  refine mw_jafter (rest := [.int 0, .int c0, .ref (aV k)]) (mw_jrunV (As := []) (b := ad 9 k) (cc := prog_27_method_80_code) (own := "java/lang/String") ⟨hx, hb, hml, hown, hts, hK⟩ hE hEm (jd_length hEE hEm hh hk) ⟨rfl, rfl⟩ (mw_good_of (mw_tm3 (List.mem_of_getElem? (i := 239) rfl)) rfl) (mw_good_of (mw_tm3 (List.mem_of_getElem? (i := 237) rfl)) rfl) (mw_good_of (mw_tm3 (List.mem_of_getElem? (i := 238) rfl)) rfl) (mw_good_of (mw_tm1 (List.mem_of_getElem? (i := 21) rfl)) rfl) (mw_good_of (mw_tm10 (List.mem_of_getElem? (i := 239) rfl)) rfl) (e2 k hk).1 (n := 0) (by decide +kernel) rfl (by decide) (by show 3 ≤ 8; decide) hl.1 (by decide +kernel) hP1 hS1) hS1 ?_
  intro H2 locs2 hP2 hS2
  refine mw_jafter (rest := []) (mw_jrunS (As := [.ref (aV k), .int c0, .int 0, .int (nI (mt_sln k))]) (cc := prog_27_method_80_code) (own := "java/lang/String") ⟨hx, hb, hml, hown, hts, hK⟩ hE hEm (jd_lindexOf hEE hEm hh hk) ⟨rfl, rfl⟩ (mw_good_of (mw_tm11 (List.mem_of_getElem? (i := 2) rfl)) rfl) (mw_good_of (mw_tm11 (List.mem_of_getElem? (i := 1) rfl)) rfl) (mw_good_of (mw_tm1 (List.mem_of_getElem? (i := 22) rfl)) rfl) (mw_good_of (mw_tm11 (List.mem_of_getElem? (i := 0) rfl)) rfl) (n := 4) (by decide +kernel) rfl (by decide) (by show 0 ≤ 8; decide) hl.1 (by decide +kernel) hP2 hS2) hS2 ?_
  intro H3 locs3 hP3 hS3
  refine lv_goto (tgt := 36) hx hb (off := 16) (by decide +kernel) (by decide) ?_
  exact mw_jret Y hE hEm hh rfl hP3 hS3 (by decide +kernel)
theorem jd_indexOf (hEE : mw_ee ad aV E) (hEm : mw_EmP ad E) (hh : mw_hv h) {k : Nat} {c0 : Int32} (hk : k < 27) : Met l ⟨"java/lang/String", "indexOf", "(I)I"⟩ (jw ⟨"java/lang/String", "indexOf", "(I)I"⟩ prog_27_method_79_code 2 (Option.some Jvm.ClassFile.FieldType.int)) (jr 3) (mw_PV dC dI ad cA E [.ref (ad 9 k), .int c0] h) (mw_Qc dC dI ad cA E (some (.inl (mj_ix (mt_sch k) c0 (mt_sln k) 0))) h) 0 0 (mw_A ad) := by
  refine mw_metJ (by decide +kernel) (by show 2 ≤ 2; decide) ?_
  intro p e s m args below meth c X hE hP ls hl
  have Y := X
  obtain ⟨hx, hb, hml, -, -, hown, hts, hK⟩ := X
  obtain ⟨-, e2, -⟩ := hEE s hE
  have hS : va_S (mw_A ad) s.heap s.heap [] := va_S.rf
  refine lv_aload_n (k := 0) hx hb (by decide +kernel) rfl (lv_at hl 0 rfl) ?_
  refine lv_iload_n (k := 1) hx hb (by decide +kernel) rfl (lv_at hl 1 rfl) ?_
  refine lv_iconst (n := 0) hx hb (by decide +kernel) rfl ?_
  refine mw_jafter (rest := []) (mw_jrunV (As := [.int c0, .int 0]) (b := ad 9 k) (cc := prog_27_method_79_code) (own := "java/lang/String") ⟨hx, hb, hml, hown, hts, hK⟩ hE hEm (jd_indexOf2 hEE hEm hh hk) ⟨rfl, rfl⟩ (mw_good_of (mw_tm10 (List.mem_of_getElem? (i := 238) rfl)) rfl) (mw_good_of (mw_tm10 (List.mem_of_getElem? (i := 236) rfl)) rfl) (mw_good_of (mw_tm10 (List.mem_of_getElem? (i := 237) rfl)) rfl) (mw_good_of (mw_tm1 (List.mem_of_getElem? (i := 21) rfl)) rfl) (mw_good_of (mw_tm10 (List.mem_of_getElem? (i := 235) rfl)) rfl) (e2 k hk).1 (n := 2) (by decide +kernel) rfl (by decide) (by show 0 ≤ 8; decide) hl.1 (by decide +kernel) hP hS) hS ?_
  intro H1 locs1 hP1 hS1
  exact mw_jret Y hE hEm hh rfl hP1 hS1 (by decide +kernel)
end JDK
