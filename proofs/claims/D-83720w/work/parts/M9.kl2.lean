/-! THE LAW over the real machine: the cases of its switch (printed by tools/gen_kl1.py) -/
theorem klw_put : Cond.methodLink "LinkedCoresLaw" 82 ky_put ∈ mw_good := mw_good_of (mw_tm7 (List.mem_of_getElem? (i := 106) rfl)) rfl
theorem kst_put : Cond.static ky_put ∈ mw_good := mw_good_of (mw_tm7 (List.mem_of_getElem? (i := 107) rfl)) rfl
theorem kcw_put : Cond.codeWith ky_put method_3_code 4 (some .int) khs_put ∈ mw_good := mw_good_of (mw_tm7 (List.mem_of_getElem? (i := 108) rfl)) rfl
theorem klw_end : Cond.methodLink "LinkedCoresLaw" 91 ky_end ∈ mw_good := mw_good_of (mw_tm7 (List.mem_of_getElem? (i := 150) rfl)) rfl
theorem kst_end : Cond.static ky_end ∈ mw_good := mw_good_of (mw_tm7 (List.mem_of_getElem? (i := 151) rfl)) rfl
theorem kcw_end : Cond.codeWith ky_end method_4_code 3 (some .int) khs_end ∈ mw_good := mw_good_of (mw_tm7 (List.mem_of_getElem? (i := 152) rfl)) rfl
theorem klw_fault : Cond.methodLink "LinkedCoresLaw" 99 ky_fault ∈ mw_good := mw_good_of (mw_tm7 (List.mem_of_getElem? (i := 157) rfl)) rfl
theorem kst_fault : Cond.static ky_fault ∈ mw_good := mw_good_of (mw_tm7 (List.mem_of_getElem? (i := 158) rfl)) rfl
theorem kcw_fault : Cond.codeWith ky_fault method_5_code 4 (some .int) khs_fault ∈ mw_good := mw_good_of (mw_tm7 (List.mem_of_getElem? (i := 159) rfl)) rfl
theorem klw_processor : Cond.methodLink "LinkedCoresLaw" 102 ky_processor ∈ mw_good := mw_good_of (mw_tm7 (List.mem_of_getElem? (i := 165) rfl)) rfl
theorem kst_processor : Cond.static ky_processor ∈ mw_good := mw_good_of (mw_tm7 (List.mem_of_getElem? (i := 166) rfl)) rfl
theorem kcw_processor : Cond.codeWith ky_processor method_6_code 5 (some .int) khs_processor ∈ mw_good := mw_good_of (mw_tm7 (List.mem_of_getElem? (i := 167) rfl)) rfl
theorem klw_code : Cond.methodLink "LinkedCoresLaw" 106 ky_code ∈ mw_good := mw_good_of (mw_tm7 (List.mem_of_getElem? (i := 195) rfl)) rfl
theorem kst_code : Cond.static ky_code ∈ mw_good := mw_good_of (mw_tm7 (List.mem_of_getElem? (i := 196) rfl)) rfl
theorem kcw_code : Cond.codeWith ky_code method_7_code 5 (some .int) khs_code ∈ mw_good := mw_good_of (mw_tm7 (List.mem_of_getElem? (i := 197) rfl)) rfl
theorem klw_instruction : Cond.methodLink "LinkedCoresLaw" 109 ky_instruction ∈ mw_good := mw_good_of (mw_tm7 (List.mem_of_getElem? (i := 221) rfl)) rfl
theorem kst_instruction : Cond.static ky_instruction ∈ mw_good := mw_good_of (mw_tm7 (List.mem_of_getElem? (i := 222) rfl)) rfl
theorem kcw_instruction : Cond.codeWith ky_instruction method_8_code 6 (some .int) khs_instruction ∈ mw_good := mw_good_of (mw_tm7 (List.mem_of_getElem? (i := 223) rfl)) rfl
theorem klw_link : Cond.methodLink "LinkedCoresLaw" 113 ky_link ∈ mw_good := mw_good_of (mw_tm7 (List.mem_of_getElem? (i := 228) rfl)) rfl
theorem kst_link : Cond.static ky_link ∈ mw_good := mw_good_of (mw_tm7 (List.mem_of_getElem? (i := 229) rfl)) rfl
theorem kcw_link : Cond.codeWith ky_link method_9_code 5 (some .int) khs_link ∈ mw_good := mw_good_of (mw_tm7 (List.mem_of_getElem? (i := 230) rfl)) rfl
theorem klw_begin : Cond.methodLink "LinkedCoresLaw" 116 ky_begin ∈ mw_good := mw_good_of (mw_tm7 (List.mem_of_getElem? (i := 235) rfl)) rfl
theorem kst_begin : Cond.static ky_begin ∈ mw_good := mw_good_of (mw_tm7 (List.mem_of_getElem? (i := 236) rfl)) rfl
theorem kcw_begin : Cond.codeWith ky_begin method_10_code 2 (some .int) khs_begin ∈ mw_good := mw_good_of (mw_tm7 (List.mem_of_getElem? (i := 237) rfl)) rfl
theorem klw_input : Cond.methodLink "LinkedCoresLaw" 120 ky_input ∈ mw_good := mw_good_of (mw_tm7 (List.mem_of_getElem? (i := 239) rfl)) rfl
theorem kst_input : Cond.static ky_input ∈ mw_good := mw_good_of (mw_tm8 (List.mem_of_getElem? (i := 0) rfl)) rfl
theorem kcw_input : Cond.codeWith ky_input method_11_code 4 (some .int) khs_input ∈ mw_good := mw_good_of (mw_tm8 (List.mem_of_getElem? (i := 1) rfl)) rfl
theorem klw_run : Cond.methodLink "LinkedCoresLaw" 123 ky_run ∈ mw_good := mw_good_of (mw_tm8 (List.mem_of_getElem? (i := 38) rfl)) rfl
theorem kst_run : Cond.static ky_run ∈ mw_good := mw_good_of (mw_tm8 (List.mem_of_getElem? (i := 39) rfl)) rfl
theorem kcw_run : Cond.codeWith ky_run method_12_code 5 (some .int) khs_run ∈ mw_good := mw_good_of (mw_tm8 (List.mem_of_getElem? (i := 40) rfl)) rfl
theorem klw_beat : Cond.methodLink "LinkedCoresLaw" 126 ky_beat ∈ mw_good := mw_good_of (mw_tm8 (List.mem_of_getElem? (i := 136) rfl)) rfl
theorem kst_beat : Cond.static ky_beat ∈ mw_good := mw_good_of (mw_tm8 (List.mem_of_getElem? (i := 137) rfl)) rfl
theorem kcw_beat : Cond.codeWith ky_beat method_13_code 4 (some .int) khs_beat ∈ mw_good := mw_good_of (mw_tm8 (List.mem_of_getElem? (i := 138) rfl)) rfl
theorem klw_rounds : Cond.methodLink "LinkedCoresLaw" 129 ky_rounds ∈ mw_good := mw_good_of (mw_tm8 (List.mem_of_getElem? (i := 159) rfl)) rfl
theorem kst_rounds : Cond.static ky_rounds ∈ mw_good := mw_good_of (mw_tm8 (List.mem_of_getElem? (i := 160) rfl)) rfl
theorem kcw_rounds : Cond.codeWith ky_rounds method_14_code 4 (some .int) khs_rounds ∈ mw_good := mw_good_of (mw_tm8 (List.mem_of_getElem? (i := 161) rfl)) rfl
theorem klw_outcome : Cond.methodLink "LinkedCoresLaw" 132 ky_outcome ∈ mw_good := mw_good_of (mw_tm8 (List.mem_of_getElem? (i := 170) rfl)) rfl
theorem kst_outcome : Cond.static ky_outcome ∈ mw_good := mw_good_of (mw_tm8 (List.mem_of_getElem? (i := 171) rfl)) rfl
theorem kcw_outcome : Cond.codeWith ky_outcome method_15_code 3 (some .int) khs_outcome ∈ mw_good := mw_good_of (mw_tm8 (List.mem_of_getElem? (i := 172) rfl)) rfl
theorem klw_core : Cond.methodLink "LinkedCoresLaw" 136 ky_core ∈ mw_good := mw_good_of (mw_tm8 (List.mem_of_getElem? (i := 174) rfl)) rfl
theorem kst_core : Cond.static ky_core ∈ mw_good := mw_good_of (mw_tm8 (List.mem_of_getElem? (i := 175) rfl)) rfl
theorem kcw_core : Cond.codeWith ky_core method_16_code 5 (some .int) khs_core ∈ mw_good := mw_good_of (mw_tm8 (List.mem_of_getElem? (i := 176) rfl)) rfl
theorem klw_ready : Cond.methodLink "LinkedCoresLaw" 139 ky_ready ∈ mw_good := mw_good_of (mw_tm8 (List.mem_of_getElem? (i := 186) rfl)) rfl
theorem kst_ready : Cond.static ky_ready ∈ mw_good := mw_good_of (mw_tm8 (List.mem_of_getElem? (i := 187) rfl)) rfl
theorem kcw_ready : Cond.codeWith ky_ready method_17_code 5 (some .int) khs_ready ∈ mw_good := mw_good_of (mw_tm8 (List.mem_of_getElem? (i := 188) rfl)) rfl
theorem klw_word : Cond.methodLink "LinkedCoresLaw" 142 ky_word ∈ mw_good := mw_good_of (mw_tm8 (List.mem_of_getElem? (i := 197) rfl)) rfl
theorem kst_word : Cond.static ky_word ∈ mw_good := mw_good_of (mw_tm8 (List.mem_of_getElem? (i := 198) rfl)) rfl
theorem kcw_word : Cond.codeWith ky_word method_18_code 5 (some .int) khs_word ∈ mw_good := mw_good_of (mw_tm8 (List.mem_of_getElem? (i := 199) rfl)) rfl
theorem klw_output : Cond.methodLink "LinkedCoresLaw" 145 ky_output ∈ mw_good := mw_good_of (mw_tm8 (List.mem_of_getElem? (i := 204) rfl)) rfl
theorem kst_output : Cond.static ky_output ∈ mw_good := mw_good_of (mw_tm8 (List.mem_of_getElem? (i := 205) rfl)) rfl
theorem kcw_output : Cond.codeWith ky_output method_19_code 4 (some .int) khs_output ∈ mw_good := mw_good_of (mw_tm8 (List.mem_of_getElem? (i := 206) rfl)) rfl
theorem klw_about : Cond.methodLink "LinkedCoresLaw" 148 ky_about ∈ mw_good := mw_good_of (mw_tm8 (List.mem_of_getElem? (i := 212) rfl)) rfl
theorem kst_about : Cond.static ky_about ∈ mw_good := mw_good_of (mw_tm8 (List.mem_of_getElem? (i := 213) rfl)) rfl
theorem kcw_about : Cond.codeWith ky_about method_20_code 4 (some .int) khs_about ∈ mw_good := mw_good_of (mw_tm8 (List.mem_of_getElem? (i := 214) rfl)) rfl
section
variable {l : Launch} {dC : Nat → ClassId} {dI : Nat → Nat → Nat} {ad : Nat → Nat → Nat} {aV : Nat → Nat} {cA : Nat → ClassId} {qo : Nat} {p : Program} {e : Env} {s : State} {m : MethodId} {below : List Frame} {meth : Method} {c : Code} {b L : Nat} {xs : Nat → Int32} {H : Heap} {locs : List Loc} {cells slots j : Nat} {Q : State → Prop} {ls : Array Slot} {h : mj_H} {f : Nat → Int64}
theorem klt_88 : Cond.methodLink "LinkedCoresLaw" 88 (mw_y 197) ∈ mw_good := mw_good_of (mw_tm10 (List.mem_of_getElem? (i := 114) rfl)) rfl
theorem klt_87 : Cond.methodLink "LinkedCoresLaw" 87 (mw_y 201) ∈ mw_good := mw_good_of (mw_tm10 (List.mem_of_getElem? (i := 118) rfl)) rfl
theorem kx_put (C : kCtx l dC dI ad aV cA qo p s m meth c b L xs) (St : kStt dC dI ad cA qo b s j h f H locs cells slots) (hl : lv_has ls 7 (kLv ad qo b j)) (hj : 4 * j + 4 ≤ L) (kk : ∀ (h' : mj_H) (f' : Nat → Int64) (H' : Heap) (locs' : List Loc) (cells' slots' : Nat) (ls' : Array Slot), kStt dC dI ad cA qo b s (j + 1) h' f' H' locs' cells' slots' → lv_has ls' 7 (kLv ad qo b j) → W p l e room_1 s m #[.ref b] below meth c H' locs' cells' slots' Q (F0 m 1193 ls' [])) : W p l e room_1 s m #[.ref b] below meth c H locs cells slots Q (F0 m 128 ls []) := by
  obtain ⟨k, hqn, hqA, F, hX, hbl, hca, hL, hr, hlk⟩ := C
  obtain ⟨hP, hO, hS, J, hh, hc9, hs9⟩ := St
  obtain ⟨hx, hb, hml, hown, hts, hK, hW0⟩ := id F
  have hbA : ¬ kNew s b := fun z => by have z : s.heap.size ≤ b := z; omega
  have hl : lv_has ls 7 [(4, .int (nI (4 * j))), (3, .ref qo), (2, .ref (ad 15 0)), (1, .ref (ad 2 0)), (0, .ref b)] := hl
  have hi1 : vp_in (nI (4 * j) + 1) L := kin (a := 4 * j) (k := 1) (by omega) hL
  have hi2 : vp_in (nI (4 * j) + 2) L := kin (a := 4 * j) (k := 2) (by omega) hL
  have hi3 : vp_in (nI (4 * j) + 3) L := kin (a := 4 * j) (k := 3) (by omega) hL
  refine lv_aload_n (k := 1) hx hb kd_law_128 rfl (lv_at hl 3 rfl) ?_
  refine lv_aload_n (k := 0) hx hb kd_law_129 rfl (lv_at hl 4 rfl) ?_
  refine lv_iload hx hb kd_law_130 (lv_at hl 0 rfl) ?_
  refine lv_iconst (v := 1) hx hb kd_law_132 rfl ?_
  refine lv_iadd hx hb kd_law_133 ?_
  refine va_sld hx hb hX hbl hbA hS hi1 kd_law_134 ?_
  refine lv_aload_n (k := 3) hx hb kd_law_135 rfl (lv_at hl 1 rfl) ?_
  refine kl_w (As := [.ref (ad 2 0), .int (xs (nI (4 * j) + 1).toNatClampNeg), .ref qo]) (K := 30000 * (j + 1)) (EX := [1, 5]) (y := ky_put) (cc9 := method_3_code) (maxL := 4) (hs := khs_put) k hqn F kcw_put kst_put ki_law klw_put ⟨by decide, by decide⟩ rfl (by decide) hl.1 hP hO hS kd_law_136 ⟨by decide, by decide⟩ ⟨by show cells + 1 ≤ 1208192; omega, by show slots + 6 ≤ 5428522; omega⟩ ((j_put J (xs (nI (4 * j) + 1).toNatClampNeg)).le (by omega)) (fun v h1 e1 => kt_put_r k hqA hh e1) (fun x n0 h1 e1 hn => kt_put_t k hqA hca hh e1 hn) (by decide) (fun r v2 h1 h2 f1 H locs hP hO hh1 hS e2 hr2 hf2 J2 => ?_)
  refine lv_istore (nL := 7) (lv' := [(5, .int r), (4, .int (nI (4 * j))), (3, .ref qo), (2, .ref (ad 15 0)), (1, .ref (ad 2 0)), (0, .ref b)]) hx hb kd_law_139 hl (by decide) rfl (fun ls5 hl5 => ?_)
  refine lv_aload_n (k := 2) hx hb kd_law_141 rfl (lv_at hl5 3 rfl) ?_
  refine lv_aload_n (k := 0) hx hb kd_law_142 rfl (lv_at hl5 5 rfl) ?_
  refine lv_iload hx hb kd_law_143 (lv_at hl5 1 rfl) ?_
  refine lv_iconst (v := 1) hx hb kd_law_145 rfl ?_
  refine lv_iadd hx hb kd_law_146 ?_
  refine va_sld hx hb hX hbl hbA hS hi1 kd_law_147 ?_
  refine kl_i (d := 0) (as := [vI (xs (nI (4 * j) + 1).toNatClampNeg)]) (mj := 201) (g := 15) (i := 0) (rest := []) k F hqn hqA (by decide) rfl klt_87 (by decide +kernel) rfl e2 (Nat.le_of_ble_eq_true rfl) (fun v hv => by simp at hv; subst hv; trivial) hh1 rfl (Nat.zero_le _) hl5.1 hP hO hS kd_law_148 ⟨by decide, by decide⟩ ⟨by show cells + 1 ≤ 1208192; omega, by show slots + 6 ≤ 5428522; omega⟩ (fun H locs hP hO hh2 hS => ?_)
  refine lv_istore (nL := 7) (lv' := [(6, .int v2), (5, .int r), (4, .int (nI (4 * j))), (3, .ref qo), (2, .ref (ad 15 0)), (1, .ref (ad 2 0)), (0, .ref b)]) hx hb kd_law_151 hl5 (by decide) rfl (fun ls6 hl6 => ?_)
  refine lv_aload_n (k := 2) hx hb kd_law_153 rfl (lv_at hl6 4 rfl) ?_
  refine kl_i (d := 0) (as := []) (mj := 197) (g := 15) (i := 0) (rest := []) k F hqn hqA (by decide) rfl klt_88 (by decide +kernel) rfl (j_thrown h2) (Nat.le_of_ble_eq_true rfl) (fun v hv => absurd hv List.not_mem_nil) hh2 rfl (Nat.zero_le _) hl6.1 hP hO hS kd_law_154 ⟨by decide, by decide⟩ ⟨by show cells + 1 ≤ 1208192; omega, by show slots + 6 ≤ 5428522; omega⟩ (fun H locs hP hO hh3 hS => ?_)
  refine lv_iload hx hb kd_law_157 (lv_at hl6 1 rfl) ?_
  refine lv_icmp_eq hx hb kd_law_159 rfl (fun _ => ?_) (fun z => absurd hr2 z)
  refine lv_iload hx hb kd_law_164 (lv_at hl6 1 rfl) ?_
  have fin : W p l e room_1 s m #[.ref b] below meth c H locs (cells + 1) (slots + 6) Q (F0 m 181 ls6 []) := by
    refine lv_goto hx hb kd_law_181 rfl ?_
    exact kk h2 f1 H locs _ _ _ ⟨hP, hO, hS, J2, hh3, by omega, by omega⟩ (lv_sub hl6 [2, 3, 4, 5, 6] rfl)
  refine lv_if_ne hx hb kd_law_166 rfl (fun _ => fin) (fun z => ?_)
  refine lv_aload_n (k := 3) hx hb kd_law_169 rfl (lv_at hl6 3 rfl) ?_
  refine lv_iconst (v := 0) hx hb kd_law_170 rfl ?_
  refine va_lald (D := (dC, dI)) (tys := mw_tys cA) (a := qo) (cA := cA 3) (n := 1) (f := f1) (i := 0) hx hb hK.1 (kW2_P hP hO) 200 3 (by rw [List.getElem?_append_right (by rw [kW2_len]; exact Nat.le_refl _), kW2_len]; rfl) rfl (fun z => by rcases z with z | z; exact absurd z (by decide); exact absurd z (by decide)) kd_law_171 ?_
  refine lv_iload hx hb kd_law_172 (lv_at hl6 0 rfl) ?_
  refine lv_i2l hx hb kd_law_174 rfl ?_
  refine W.lcmp hx hb kd_law_175 ?_
  have z0 : f1 (0 : Int32).toNatClampNeg = v2.toInt64 := hf2 z
  rw [z0, lg_self]
  exact lv_if_eq hx hb kd_law_176 rfl (fun _ => fin) (fun z => absurd rfl z)
theorem klt_94 : Cond.methodLink "LinkedCoresLaw" 94 (mw_y 202) ∈ mw_good := mw_good_of (mw_tm10 (List.mem_of_getElem? (i := 132) rfl)) rfl
theorem kx_end (C : kCtx l dC dI ad aV cA qo p s m meth c b L xs) (St : kStt dC dI ad cA qo b s j h f H locs cells slots) (hl : lv_has ls 7 (kLv ad qo b j)) (hj : 4 * j + 4 ≤ L) (kk : ∀ (h' : mj_H) (f' : Nat → Int64) (H' : Heap) (locs' : List Loc) (cells' slots' : Nat) (ls' : Array Slot), kStt dC dI ad cA qo b s (j + 1) h' f' H' locs' cells' slots' → lv_has ls' 7 (kLv ad qo b j) → W p l e room_1 s m #[.ref b] below meth c H' locs' cells' slots' Q (F0 m 1193 ls' [])) : W p l e room_1 s m #[.ref b] below meth c H locs cells slots Q (F0 m 184 ls []) := by
  obtain ⟨k, hqn, hqA, F, hX, hbl, hca, hL, hr, hlk⟩ := C
  obtain ⟨hP, hO, hS, J, hh, hc9, hs9⟩ := St
  obtain ⟨hx, hb, hml, hown, hts, hK, hW0⟩ := id F
  have hbA : ¬ kNew s b := fun z => by have z : s.heap.size ≤ b := z; omega
  have hl : lv_has ls 7 [(4, .int (nI (4 * j))), (3, .ref qo), (2, .ref (ad 15 0)), (1, .ref (ad 2 0)), (0, .ref b)] := hl
  have hi1 : vp_in (nI (4 * j) + 1) L := kin (a := 4 * j) (k := 1) (by omega) hL
  have hi2 : vp_in (nI (4 * j) + 2) L := kin (a := 4 * j) (k := 2) (by omega) hL
  have hi3 : vp_in (nI (4 * j) + 3) L := kin (a := 4 * j) (k := 3) (by omega) hL
  refine lv_aload_n (k := 1) hx hb kd_law_184 rfl (lv_at hl 3 rfl) ?_
  refine lv_aload_n (k := 0) hx hb kd_law_185 rfl (lv_at hl 4 rfl) ?_
  refine lv_iload hx hb kd_law_186 (lv_at hl 0 rfl) ?_
  refine lv_iconst (v := 1) hx hb kd_law_188 rfl ?_
  refine lv_iadd hx hb kd_law_189 ?_
  refine va_sld hx hb hX hbl hbA hS hi1 kd_law_190 ?_
  refine kl_wv (As := [.ref (ad 2 0), .int (xs (nI (4 * j) + 1).toNatClampNeg)]) (K := 30000 * (j + 1)) (EX := [1]) (y := ky_end) (cc9 := method_4_code) (maxL := 3) (hs := khs_end) k hqn F kcw_end kst_end ki_law klw_end ⟨by decide, by decide⟩ rfl (by decide) hl.1 hP hO hS kd_law_191 ⟨by decide, by decide⟩ ⟨by show cells + 1 ≤ 1208192; omega, by show slots + 6 ≤ 5428522; omega⟩ ((j_end J (xs (nI (4 * j) + 1).toNatClampNeg)).le (by omega)) (fun h1 e1 => kt_end_r k hqA hh e1) (fun x n0 h1 e1 hn => kt_end_t k hqA hca hh e1 hn) (fun r h1 h2 f1 H locs hP hO hh1 hS e2 hr2 J2 => ?_)
  refine lv_istore (nL := 7) (lv' := [(5, .int r), (4, .int (nI (4 * j))), (3, .ref qo), (2, .ref (ad 15 0)), (1, .ref (ad 2 0)), (0, .ref b)]) hx hb kd_law_194 hl (by decide) rfl (fun ls5 hl5 => ?_)
  refine lv_aload_n (k := 2) hx hb kd_law_196 rfl (lv_at hl5 3 rfl) ?_
  refine lv_aload_n (k := 0) hx hb kd_law_197 rfl (lv_at hl5 5 rfl) ?_
  refine lv_iload hx hb kd_law_198 (lv_at hl5 1 rfl) ?_
  refine lv_iconst (v := 1) hx hb kd_law_200 rfl ?_
  refine lv_iadd hx hb kd_law_201 ?_
  refine va_sld hx hb hX hbl hbA hS hi1 kd_law_202 ?_
  refine kl_v (d := 0) (as := [vI (xs (nI (4 * j) + 1).toNatClampNeg)]) (mj := 202) (g := 15) (i := 0) (rest := []) k F hqn hqA (by decide) rfl klt_94 (by decide +kernel) rfl e2 (Nat.le_of_ble_eq_true rfl) (fun v hv => by simp at hv; subst hv; trivial) hh1 rfl (Nat.zero_le _) hl5.1 hP hO hS kd_law_203 ⟨by decide, by decide⟩ ⟨by show cells + 1 ≤ 1208192; omega, by show slots + 6 ≤ 5428522; omega⟩ (fun H locs hP hO hh2 hS => ?_)
  refine lv_aload_n (k := 2) hx hb kd_law_206 rfl (lv_at hl5 3 rfl) ?_
  refine kl_i (d := 0) (as := []) (mj := 197) (g := 15) (i := 0) (rest := []) k F hqn hqA (by decide) rfl klt_88 (by decide +kernel) rfl (j_thrown h2) (Nat.le_of_ble_eq_true rfl) (fun v hv => absurd hv List.not_mem_nil) hh2 rfl (Nat.zero_le _) hl5.1 hP hO hS kd_law_207 ⟨by decide, by decide⟩ ⟨by show cells + 1 ≤ 1208192; omega, by show slots + 6 ≤ 5428522; omega⟩ (fun H locs hP hO hh3 hS => ?_)
  refine lv_iload hx hb kd_law_210 (lv_at hl5 0 rfl) ?_
  refine lv_icmp_eq hx hb kd_law_212 rfl (fun _ => ?_) (fun z => absurd hr2 z)
  refine lv_goto hx hb kd_law_217 rfl ?_
  exact kk h2 f1 H locs _ _ _ ⟨hP, hO, hS, J2, hh3, by omega, by omega⟩ (lv_sub hl5 [1, 2, 3, 4, 5] rfl)
theorem klt_95 : Cond.methodLink "LinkedCoresLaw" 95 (mw_y 12) ∈ mw_good := mw_good_of (mw_tm3 (List.mem_of_getElem? (i := 220) rfl)) rfl
theorem klt_98 : Cond.methodLink "LinkedCoresLaw" 98 (mw_y 319) ∈ mw_good := mw_good_of (mw_tm10 (List.mem_of_getElem? (i := 136) rfl)) rfl
theorem kx_compile (C : kCtx l dC dI ad aV cA qo p s m meth c b L xs) (St : kStt dC dI ad cA qo b s j h f H locs cells slots) (hl : lv_has ls 7 (kLv ad qo b j)) (hj : 4 * j + 4 ≤ L) (kk : ∀ (h' : mj_H) (f' : Nat → Int64) (H' : Heap) (locs' : List Loc) (cells' slots' : Nat) (ls' : Array Slot), kStt dC dI ad cA qo b s (j + 1) h' f' H' locs' cells' slots' → lv_has ls' 7 (kLv ad qo b j) → W p l e room_1 s m #[.ref b] below meth c H' locs' cells' slots' Q (F0 m 1193 ls' [])) : W p l e room_1 s m #[.ref b] below meth c H locs cells slots Q (F0 m 220 ls []) := by
  obtain ⟨k, hqn, hqA, F, hX, hbl, hca, hL, hr, hlk⟩ := C
  obtain ⟨hP, hO, hS, J, hh, hc9, hs9⟩ := St
  obtain ⟨hx, hb, hml, hown, hts, hK, hW0⟩ := id F
  have hbA : ¬ kNew s b := fun z => by have z : s.heap.size ≤ b := z; omega
  have hl : lv_has ls 7 [(4, .int (nI (4 * j))), (3, .ref qo), (2, .ref (ad 15 0)), (1, .ref (ad 2 0)), (0, .ref b)] := hl
  have hi1 : vp_in (nI (4 * j) + 1) L := kin (a := 4 * j) (k := 1) (by omega) hL
  have hi2 : vp_in (nI (4 * j) + 2) L := kin (a := 4 * j) (k := 2) (by omega) hL
  have hi3 : vp_in (nI (4 * j) + 3) L := kin (a := 4 * j) (k := 3) (by omega) hL
  refine lv_aload_n (k := 1) hx hb kd_law_220 rfl (lv_at hl 3 rfl) ?_
  obtain ⟨v2, h1, h2, e1, e2, J2⟩ := j_comp J
  refine kl_i (d := 0) (as := []) (mj := 12) (g := 2) (i := 0) (rest := []) k F hqn hqA (by decide) rfl klt_95 (by decide +kernel) rfl e1 (Nat.le_of_ble_eq_true rfl) (fun v hv => absurd hv List.not_mem_nil) hh rfl (Nat.zero_le _) hl.1 hP hO hS kd_law_221 ⟨by decide, by decide⟩ ⟨by show cells ≤ 1208192; omega, by show slots ≤ 5428522; omega⟩ (fun H locs hP hO hh1 hS => ?_)
  refine lv_aload_n (k := 2) hx hb kd_law_224 rfl (lv_at hl 2 rfl) ?_
  refine kl_i (d := 0) (as := []) (mj := 319) (g := 15) (i := 0) (rest := [.int v2]) k F hqn hqA (by decide) rfl klt_98 (by decide +kernel) rfl e2 (Nat.le_of_ble_eq_true rfl) (fun v hv => absurd hv List.not_mem_nil) hh1 rfl (Nat.le_of_ble_eq_true rfl) hl.1 hP hO hS kd_law_225 ⟨by decide, by decide⟩ ⟨by show cells ≤ 1208192; omega, by show slots ≤ 5428522; omega⟩ (fun H locs hP hO hh2 hS => ?_)
  refine lv_icmp_eq hx hb kd_law_228 rfl (fun _ => ?_) (fun z => absurd rfl z)
  exact kk h2 f H locs cells slots ls ⟨hP, hO, hS, J2.le (by omega), hh2, by omega, by omega⟩ hl
theorem klt_101 : Cond.methodLink "LinkedCoresLaw" 101 (mw_y 320) ∈ mw_good := mw_good_of (mw_tm12 (List.mem_of_getElem? (i := 189) rfl)) rfl
theorem kx_fault (C : kCtx l dC dI ad aV cA qo p s m meth c b L xs) (St : kStt dC dI ad cA qo b s j h f H locs cells slots) (hl : lv_has ls 7 (kLv ad qo b j)) (hj : 4 * j + 4 ≤ L) (kk : ∀ (h' : mj_H) (f' : Nat → Int64) (H' : Heap) (locs' : List Loc) (cells' slots' : Nat) (ls' : Array Slot), kStt dC dI ad cA qo b s (j + 1) h' f' H' locs' cells' slots' → lv_has ls' 7 (kLv ad qo b j) → W p l e room_1 s m #[.ref b] below meth c H' locs' cells' slots' Q (F0 m 1193 ls' [])) : W p l e room_1 s m #[.ref b] below meth c H locs cells slots Q (F0 m 233 ls []) := by
  obtain ⟨k, hqn, hqA, F, hX, hbl, hca, hL, hr, hlk⟩ := C
  obtain ⟨hP, hO, hS, J, hh, hc9, hs9⟩ := St
  obtain ⟨hx, hb, hml, hown, hts, hK, hW0⟩ := id F
  have hbA : ¬ kNew s b := fun z => by have z : s.heap.size ≤ b := z; omega
  have hl : lv_has ls 7 [(4, .int (nI (4 * j))), (3, .ref qo), (2, .ref (ad 15 0)), (1, .ref (ad 2 0)), (0, .ref b)] := hl
  have hi1 : vp_in (nI (4 * j) + 1) L := kin (a := 4 * j) (k := 1) (by omega) hL
  have hi2 : vp_in (nI (4 * j) + 2) L := kin (a := 4 * j) (k := 2) (by omega) hL
  have hi3 : vp_in (nI (4 * j) + 3) L := kin (a := 4 * j) (k := 3) (by omega) hL
  refine lv_aload_n (k := 1) hx hb kd_law_233 rfl (lv_at hl 3 rfl) ?_
  refine lv_aload_n (k := 0) hx hb kd_law_234 rfl (lv_at hl 4 rfl) ?_
  refine lv_iload hx hb kd_law_235 (lv_at hl 0 rfl) ?_
  refine lv_iconst (v := 1) hx hb kd_law_237 rfl ?_
  refine lv_iadd hx hb kd_law_238 ?_
  refine va_sld hx hb hX hbl hbA hS hi1 kd_law_239 ?_
  refine lv_aload_n (k := 3) hx hb kd_law_240 rfl (lv_at hl 1 rfl) ?_
  refine kl_w (As := [.ref (ad 2 0), .int (xs (nI (4 * j) + 1).toNatClampNeg), .ref qo]) (K := 30000 * (j + 1)) (EX := [1]) (y := ky_fault) (cc9 := method_5_code) (maxL := 4) (hs := khs_fault) k hqn F kcw_fault kst_fault ki_law klw_fault ⟨by decide, by decide⟩ rfl (by decide) hl.1 hP hO hS kd_law_241 ⟨by decide, by decide⟩ ⟨by show cells + 1 ≤ 1208192; omega, by show slots + 6 ≤ 5428522; omega⟩ ((j_fault J (xs (nI (4 * j) + 1).toNatClampNeg)).le (by omega)) (fun v h1 e1 => kt_fault_r k hqA hh e1) (fun x n0 h1 e1 hn => kt_fault_t k hqA hca hh e1 hn) (by decide) (fun r v2 h1 h2 f1 H locs hP hO hh1 hS e2 hr2 hf2 J2 => ?_)
  refine lv_istore (nL := 7) (lv' := [(5, .int r), (4, .int (nI (4 * j))), (3, .ref qo), (2, .ref (ad 15 0)), (1, .ref (ad 2 0)), (0, .ref b)]) hx hb kd_law_244 hl (by decide) rfl (fun ls5 hl5 => ?_)
  refine lv_aload_n (k := 2) hx hb kd_law_246 rfl (lv_at hl5 3 rfl) ?_
  refine lv_aload_n (k := 0) hx hb kd_law_247 rfl (lv_at hl5 5 rfl) ?_
  refine lv_iload hx hb kd_law_248 (lv_at hl5 1 rfl) ?_
  refine lv_iconst (v := 1) hx hb kd_law_250 rfl ?_
  refine lv_iadd hx hb kd_law_251 ?_
  refine va_sld hx hb hX hbl hbA hS hi1 kd_law_252 ?_
  refine kl_i (d := 0) (as := [vI (xs (nI (4 * j) + 1).toNatClampNeg)]) (mj := 320) (g := 15) (i := 0) (rest := []) k F hqn hqA (by decide) rfl klt_101 (by decide +kernel) rfl e2 (Nat.le_of_ble_eq_true rfl) (fun v hv => by simp at hv; subst hv; trivial) hh1 rfl (Nat.zero_le _) hl5.1 hP hO hS kd_law_253 ⟨by decide, by decide⟩ ⟨by show cells + 1 ≤ 1208192; omega, by show slots + 6 ≤ 5428522; omega⟩ (fun H locs hP hO hh2 hS => ?_)
  refine lv_istore (nL := 7) (lv' := [(6, .int v2), (5, .int r), (4, .int (nI (4 * j))), (3, .ref qo), (2, .ref (ad 15 0)), (1, .ref (ad 2 0)), (0, .ref b)]) hx hb kd_law_256 hl5 (by decide) rfl (fun ls6 hl6 => ?_)
  refine lv_aload_n (k := 2) hx hb kd_law_258 rfl (lv_at hl6 4 rfl) ?_
  refine kl_i (d := 0) (as := []) (mj := 197) (g := 15) (i := 0) (rest := []) k F hqn hqA (by decide) rfl klt_88 (by decide +kernel) rfl (j_thrown h2) (Nat.le_of_ble_eq_true rfl) (fun v hv => absurd hv List.not_mem_nil) hh2 rfl (Nat.zero_le _) hl6.1 hP hO hS kd_law_259 ⟨by decide, by decide⟩ ⟨by show cells + 1 ≤ 1208192; omega, by show slots + 6 ≤ 5428522; omega⟩ (fun H locs hP hO hh3 hS => ?_)
  refine lv_iload hx hb kd_law_262 (lv_at hl6 1 rfl) ?_
  refine lv_icmp_eq hx hb kd_law_264 rfl (fun _ => ?_) (fun z => absurd hr2 z)
  refine lv_iload hx hb kd_law_269 (lv_at hl6 1 rfl) ?_
  have fin : W p l e room_1 s m #[.ref b] below meth c H locs (cells + 1) (slots + 6) Q (F0 m 286 ls6 []) := by
    refine lv_goto hx hb kd_law_286 rfl ?_
    exact kk h2 f1 H locs _ _ _ ⟨hP, hO, hS, J2, hh3, by omega, by omega⟩ (lv_sub hl6 [2, 3, 4, 5, 6] rfl)
  refine lv_if_ne hx hb kd_law_271 rfl (fun _ => fin) (fun z => ?_)
  refine lv_aload_n (k := 3) hx hb kd_law_274 rfl (lv_at hl6 3 rfl) ?_
  refine lv_iconst (v := 0) hx hb kd_law_275 rfl ?_
  refine va_lald (D := (dC, dI)) (tys := mw_tys cA) (a := qo) (cA := cA 3) (n := 1) (f := f1) (i := 0) hx hb hK.1 (kW2_P hP hO) 200 3 (by rw [List.getElem?_append_right (by rw [kW2_len]; exact Nat.le_refl _), kW2_len]; rfl) rfl (fun z => by rcases z with z | z; exact absurd z (by decide); exact absurd z (by decide)) kd_law_276 ?_
  refine lv_iload hx hb kd_law_277 (lv_at hl6 0 rfl) ?_
  refine lv_i2l hx hb kd_law_279 rfl ?_
  refine W.lcmp hx hb kd_law_280 ?_
  have z0 : f1 (0 : Int32).toNatClampNeg = v2.toInt64 := hf2 z
  rw [z0, lg_self]
  exact lv_if_eq hx hb kd_law_281 rfl (fun _ => fin) (fun z => absurd rfl z)
theorem klt_105 : Cond.methodLink "LinkedCoresLaw" 105 (mw_y 356) ∈ mw_good := mw_good_of (mw_tm13 (List.mem_of_getElem? (i := 89) rfl)) rfl
theorem kx_processor (C : kCtx l dC dI ad aV cA qo p s m meth c b L xs) (St : kStt dC dI ad cA qo b s j h f H locs cells slots) (hl : lv_has ls 7 (kLv ad qo b j)) (hj : 4 * j + 4 ≤ L) (kk : ∀ (h' : mj_H) (f' : Nat → Int64) (H' : Heap) (locs' : List Loc) (cells' slots' : Nat) (ls' : Array Slot), kStt dC dI ad cA qo b s (j + 1) h' f' H' locs' cells' slots' → lv_has ls' 7 (kLv ad qo b j) → W p l e room_1 s m #[.ref b] below meth c H' locs' cells' slots' Q (F0 m 1193 ls' [])) : W p l e room_1 s m #[.ref b] below meth c H locs cells slots Q (F0 m 289 ls []) := by
  obtain ⟨k, hqn, hqA, F, hX, hbl, hca, hL, hr, hlk⟩ := C
  obtain ⟨hP, hO, hS, J, hh, hc9, hs9⟩ := St
  obtain ⟨hx, hb, hml, hown, hts, hK, hW0⟩ := id F
  have hbA : ¬ kNew s b := fun z => by have z : s.heap.size ≤ b := z; omega
  have hl : lv_has ls 7 [(4, .int (nI (4 * j))), (3, .ref qo), (2, .ref (ad 15 0)), (1, .ref (ad 2 0)), (0, .ref b)] := hl
  have hi1 : vp_in (nI (4 * j) + 1) L := kin (a := 4 * j) (k := 1) (by omega) hL
  have hi2 : vp_in (nI (4 * j) + 2) L := kin (a := 4 * j) (k := 2) (by omega) hL
  have hi3 : vp_in (nI (4 * j) + 3) L := kin (a := 4 * j) (k := 3) (by omega) hL
  refine lv_aload_n (k := 1) hx hb kd_law_289 rfl (lv_at hl 3 rfl) ?_
  refine lv_aload_n (k := 0) hx hb kd_law_290 rfl (lv_at hl 4 rfl) ?_
  refine lv_iload hx hb kd_law_291 (lv_at hl 0 rfl) ?_
  refine lv_iconst (v := 1) hx hb kd_law_293 rfl ?_
  refine lv_iadd hx hb kd_law_294 ?_
  refine va_sld hx hb hX hbl hbA hS hi1 kd_law_295 ?_
  refine lv_aload_n (k := 0) hx hb kd_law_296 rfl (lv_at hl 4 rfl) ?_
  refine lv_iload hx hb kd_law_297 (lv_at hl 0 rfl) ?_
  refine lv_iconst (v := 2) hx hb kd_law_299 rfl ?_
  refine lv_iadd hx hb kd_law_300 ?_
  refine va_sld hx hb hX hbl hbA hS hi2 kd_law_301 ?_
  refine lv_aload_n (k := 3) hx hb kd_law_302 rfl (lv_at hl 1 rfl) ?_
  refine kl_w (As := [.ref (ad 2 0), .int (xs (nI (4 * j) + 1).toNatClampNeg), .int (xs (nI (4 * j) + 2).toNatClampNeg), .ref qo]) (K := 30000 * (j + 1)) (EX := [3, 4, 1]) (y := ky_processor) (cc9 := method_6_code) (maxL := 5) (hs := khs_processor) k hqn F kcw_processor kst_processor ki_law klw_processor ⟨by decide, by decide⟩ rfl (by decide) hl.1 hP hO hS kd_law_303 ⟨by decide, by decide⟩ ⟨by show cells + 1 ≤ 1208192; omega, by show slots + 6 ≤ 5428522; omega⟩ ((j_processor J (by omega) (xs (nI (4 * j) + 1).toNatClampNeg) (xs (nI (4 * j) + 2).toNatClampNeg)).le (by omega)) (fun v h1 e1 => kt_processor_r k hqA hh e1) (fun x n0 h1 e1 hn => kt_processor_t k hqA hca hh e1 hn) (by decide) (fun r v2 h1 h2 f1 H locs hP hO hh1 hS e2 hr2 hf2 J2 => ?_)
  refine lv_istore (nL := 7) (lv' := [(5, .int r), (4, .int (nI (4 * j))), (3, .ref qo), (2, .ref (ad 15 0)), (1, .ref (ad 2 0)), (0, .ref b)]) hx hb kd_law_306 hl (by decide) rfl (fun ls5 hl5 => ?_)
  refine lv_aload_n (k := 2) hx hb kd_law_308 rfl (lv_at hl5 3 rfl) ?_
  refine lv_aload_n (k := 0) hx hb kd_law_309 rfl (lv_at hl5 5 rfl) ?_
  refine lv_iload hx hb kd_law_310 (lv_at hl5 1 rfl) ?_
  refine lv_iconst (v := 1) hx hb kd_law_312 rfl ?_
  refine lv_iadd hx hb kd_law_313 ?_
  refine va_sld hx hb hX hbl hbA hS hi1 kd_law_314 ?_
  refine lv_aload_n (k := 0) hx hb kd_law_315 rfl (lv_at hl5 5 rfl) ?_
  refine lv_iload hx hb kd_law_316 (lv_at hl5 1 rfl) ?_
  refine lv_iconst (v := 2) hx hb kd_law_318 rfl ?_
  refine lv_iadd hx hb kd_law_319 ?_
  refine va_sld hx hb hX hbl hbA hS hi2 kd_law_320 ?_
  refine kl_i (d := 0) (as := [vI (xs (nI (4 * j) + 1).toNatClampNeg), vI (xs (nI (4 * j) + 2).toNatClampNeg)]) (mj := 356) (g := 15) (i := 0) (rest := []) k F hqn hqA (by decide) rfl klt_105 (by decide +kernel) rfl e2 (Nat.le_of_ble_eq_true rfl) (fun v hv => by simp at hv; rcases hv with rfl | rfl <;> trivial) hh1 rfl (Nat.zero_le _) hl5.1 hP hO hS kd_law_321 ⟨by decide, by decide⟩ ⟨by show cells + 1 ≤ 1208192; omega, by show slots + 6 ≤ 5428522; omega⟩ (fun H locs hP hO hh2 hS => ?_)
  refine lv_istore (nL := 7) (lv' := [(6, .int v2), (5, .int r), (4, .int (nI (4 * j))), (3, .ref qo), (2, .ref (ad 15 0)), (1, .ref (ad 2 0)), (0, .ref b)]) hx hb kd_law_324 hl5 (by decide) rfl (fun ls6 hl6 => ?_)
  refine lv_aload_n (k := 2) hx hb kd_law_326 rfl (lv_at hl6 4 rfl) ?_
  refine kl_i (d := 0) (as := []) (mj := 197) (g := 15) (i := 0) (rest := []) k F hqn hqA (by decide) rfl klt_88 (by decide +kernel) rfl (j_thrown h2) (Nat.le_of_ble_eq_true rfl) (fun v hv => absurd hv List.not_mem_nil) hh2 rfl (Nat.zero_le _) hl6.1 hP hO hS kd_law_327 ⟨by decide, by decide⟩ ⟨by show cells + 1 ≤ 1208192; omega, by show slots + 6 ≤ 5428522; omega⟩ (fun H locs hP hO hh3 hS => ?_)
  refine lv_iload hx hb kd_law_330 (lv_at hl6 1 rfl) ?_
  refine lv_icmp_eq hx hb kd_law_332 rfl (fun _ => ?_) (fun z => absurd hr2 z)
  refine lv_iload hx hb kd_law_337 (lv_at hl6 1 rfl) ?_
  have fin : W p l e room_1 s m #[.ref b] below meth c H locs (cells + 1) (slots + 6) Q (F0 m 354 ls6 []) := by
    refine lv_goto hx hb kd_law_354 rfl ?_
    exact kk h2 f1 H locs _ _ _ ⟨hP, hO, hS, J2, hh3, by omega, by omega⟩ (lv_sub hl6 [2, 3, 4, 5, 6] rfl)
  refine lv_if_ne hx hb kd_law_339 rfl (fun _ => fin) (fun z => ?_)
  refine lv_aload_n (k := 3) hx hb kd_law_342 rfl (lv_at hl6 3 rfl) ?_
  refine lv_iconst (v := 0) hx hb kd_law_343 rfl ?_
  refine va_lald (D := (dC, dI)) (tys := mw_tys cA) (a := qo) (cA := cA 3) (n := 1) (f := f1) (i := 0) hx hb hK.1 (kW2_P hP hO) 200 3 (by rw [List.getElem?_append_right (by rw [kW2_len]; exact Nat.le_refl _), kW2_len]; rfl) rfl (fun z => by rcases z with z | z; exact absurd z (by decide); exact absurd z (by decide)) kd_law_344 ?_
  refine lv_iload hx hb kd_law_345 (lv_at hl6 0 rfl) ?_
  refine lv_i2l hx hb kd_law_347 rfl ?_
  refine W.lcmp hx hb kd_law_348 ?_
  have z0 : f1 (0 : Int32).toNatClampNeg = v2.toInt64 := hf2 z
  rw [z0, lg_self]
  exact lv_if_eq hx hb kd_law_349 rfl (fun _ => fin) (fun z => absurd rfl z)
theorem klt_108 : Cond.methodLink "LinkedCoresLaw" 108 (mw_y 358) ∈ mw_good := mw_good_of (mw_tm13 (List.mem_of_getElem? (i := 93) rfl)) rfl
theorem kx_code (C : kCtx l dC dI ad aV cA qo p s m meth c b L xs) (St : kStt dC dI ad cA qo b s j h f H locs cells slots) (hl : lv_has ls 7 (kLv ad qo b j)) (hj : 4 * j + 4 ≤ L) (kk : ∀ (h' : mj_H) (f' : Nat → Int64) (H' : Heap) (locs' : List Loc) (cells' slots' : Nat) (ls' : Array Slot), kStt dC dI ad cA qo b s (j + 1) h' f' H' locs' cells' slots' → lv_has ls' 7 (kLv ad qo b j) → W p l e room_1 s m #[.ref b] below meth c H' locs' cells' slots' Q (F0 m 1193 ls' [])) : W p l e room_1 s m #[.ref b] below meth c H locs cells slots Q (F0 m 357 ls []) := by
  obtain ⟨k, hqn, hqA, F, hX, hbl, hca, hL, hr, hlk⟩ := C
  obtain ⟨hP, hO, hS, J, hh, hc9, hs9⟩ := St
  obtain ⟨hx, hb, hml, hown, hts, hK, hW0⟩ := id F
  have hbA : ¬ kNew s b := fun z => by have z : s.heap.size ≤ b := z; omega
  have hl : lv_has ls 7 [(4, .int (nI (4 * j))), (3, .ref qo), (2, .ref (ad 15 0)), (1, .ref (ad 2 0)), (0, .ref b)] := hl
  have hi1 : vp_in (nI (4 * j) + 1) L := kin (a := 4 * j) (k := 1) (by omega) hL
  have hi2 : vp_in (nI (4 * j) + 2) L := kin (a := 4 * j) (k := 2) (by omega) hL
  have hi3 : vp_in (nI (4 * j) + 3) L := kin (a := 4 * j) (k := 3) (by omega) hL
  refine lv_aload_n (k := 1) hx hb kd_law_357 rfl (lv_at hl 3 rfl) ?_
  refine lv_aload_n (k := 0) hx hb kd_law_358 rfl (lv_at hl 4 rfl) ?_
  refine lv_iload hx hb kd_law_359 (lv_at hl 0 rfl) ?_
  refine lv_iconst (v := 1) hx hb kd_law_361 rfl ?_
  refine lv_iadd hx hb kd_law_362 ?_
  refine va_sld hx hb hX hbl hbA hS hi1 kd_law_363 ?_
  refine lv_aload_n (k := 0) hx hb kd_law_364 rfl (lv_at hl 4 rfl) ?_
  refine lv_iload hx hb kd_law_365 (lv_at hl 0 rfl) ?_
  refine lv_iconst (v := 2) hx hb kd_law_367 rfl ?_
  refine lv_iadd hx hb kd_law_368 ?_
  refine va_sld hx hb hX hbl hbA hS hi2 kd_law_369 ?_
  refine lv_aload_n (k := 3) hx hb kd_law_370 rfl (lv_at hl 1 rfl) ?_
  refine kl_w (As := [.ref (ad 2 0), .int (xs (nI (4 * j) + 1).toNatClampNeg), .int (xs (nI (4 * j) + 2).toNatClampNeg), .ref qo]) (K := 30000 * (j + 1)) (EX := [3, 4, 2]) (y := ky_code) (cc9 := method_7_code) (maxL := 5) (hs := khs_code) k hqn F kcw_code kst_code ki_law klw_code ⟨by decide, by decide⟩ rfl (by decide) hl.1 hP hO hS kd_law_371 ⟨by decide, by decide⟩ ⟨by show cells + 1 ≤ 1208192; omega, by show slots + 6 ≤ 5428522; omega⟩ ((j_code J (by omega) (xs (nI (4 * j) + 1).toNatClampNeg) (xs (nI (4 * j) + 2).toNatClampNeg)).le (by omega)) (fun v h1 e1 => kt_code_r k hqA hh e1) (fun x n0 h1 e1 hn => kt_code_t k hqA hca hh e1 hn) (by decide) (fun r v2 h1 h2 f1 H locs hP hO hh1 hS e2 hr2 hf2 J2 => ?_)
  refine lv_istore (nL := 7) (lv' := [(5, .int r), (4, .int (nI (4 * j))), (3, .ref qo), (2, .ref (ad 15 0)), (1, .ref (ad 2 0)), (0, .ref b)]) hx hb kd_law_374 hl (by decide) rfl (fun ls5 hl5 => ?_)
  refine lv_aload_n (k := 2) hx hb kd_law_376 rfl (lv_at hl5 3 rfl) ?_
  refine lv_aload_n (k := 0) hx hb kd_law_377 rfl (lv_at hl5 5 rfl) ?_
  refine lv_iload hx hb kd_law_378 (lv_at hl5 1 rfl) ?_
  refine lv_iconst (v := 1) hx hb kd_law_380 rfl ?_
  refine lv_iadd hx hb kd_law_381 ?_
  refine va_sld hx hb hX hbl hbA hS hi1 kd_law_382 ?_
  refine lv_aload_n (k := 0) hx hb kd_law_383 rfl (lv_at hl5 5 rfl) ?_
  refine lv_iload hx hb kd_law_384 (lv_at hl5 1 rfl) ?_
  refine lv_iconst (v := 2) hx hb kd_law_386 rfl ?_
  refine lv_iadd hx hb kd_law_387 ?_
  refine va_sld hx hb hX hbl hbA hS hi2 kd_law_388 ?_
  refine kl_i (d := 0) (as := [vI (xs (nI (4 * j) + 1).toNatClampNeg), vI (xs (nI (4 * j) + 2).toNatClampNeg)]) (mj := 358) (g := 15) (i := 0) (rest := []) k F hqn hqA (by decide) rfl klt_108 (by decide +kernel) rfl e2 (Nat.le_of_ble_eq_true rfl) (fun v hv => by simp at hv; rcases hv with rfl | rfl <;> trivial) hh1 rfl (Nat.zero_le _) hl5.1 hP hO hS kd_law_389 ⟨by decide, by decide⟩ ⟨by show cells + 1 ≤ 1208192; omega, by show slots + 6 ≤ 5428522; omega⟩ (fun H locs hP hO hh2 hS => ?_)
  refine lv_istore (nL := 7) (lv' := [(6, .int v2), (5, .int r), (4, .int (nI (4 * j))), (3, .ref qo), (2, .ref (ad 15 0)), (1, .ref (ad 2 0)), (0, .ref b)]) hx hb kd_law_392 hl5 (by decide) rfl (fun ls6 hl6 => ?_)
  refine lv_aload_n (k := 2) hx hb kd_law_394 rfl (lv_at hl6 4 rfl) ?_
  refine kl_i (d := 0) (as := []) (mj := 197) (g := 15) (i := 0) (rest := []) k F hqn hqA (by decide) rfl klt_88 (by decide +kernel) rfl (j_thrown h2) (Nat.le_of_ble_eq_true rfl) (fun v hv => absurd hv List.not_mem_nil) hh2 rfl (Nat.zero_le _) hl6.1 hP hO hS kd_law_395 ⟨by decide, by decide⟩ ⟨by show cells + 1 ≤ 1208192; omega, by show slots + 6 ≤ 5428522; omega⟩ (fun H locs hP hO hh3 hS => ?_)
  refine lv_iload hx hb kd_law_398 (lv_at hl6 1 rfl) ?_
  refine lv_icmp_eq hx hb kd_law_400 rfl (fun _ => ?_) (fun z => absurd hr2 z)
  refine lv_iload hx hb kd_law_405 (lv_at hl6 1 rfl) ?_
  have fin : W p l e room_1 s m #[.ref b] below meth c H locs (cells + 1) (slots + 6) Q (F0 m 422 ls6 []) := by
    refine lv_goto hx hb kd_law_422 rfl ?_
    exact kk h2 f1 H locs _ _ _ ⟨hP, hO, hS, J2, hh3, by omega, by omega⟩ (lv_sub hl6 [2, 3, 4, 5, 6] rfl)
  refine lv_if_ne hx hb kd_law_407 rfl (fun _ => fin) (fun z => ?_)
  refine lv_aload_n (k := 3) hx hb kd_law_410 rfl (lv_at hl6 3 rfl) ?_
  refine lv_iconst (v := 0) hx hb kd_law_411 rfl ?_
  refine va_lald (D := (dC, dI)) (tys := mw_tys cA) (a := qo) (cA := cA 3) (n := 1) (f := f1) (i := 0) hx hb hK.1 (kW2_P hP hO) 200 3 (by rw [List.getElem?_append_right (by rw [kW2_len]; exact Nat.le_refl _), kW2_len]; rfl) rfl (fun z => by rcases z with z | z; exact absurd z (by decide); exact absurd z (by decide)) kd_law_412 ?_
  refine lv_iload hx hb kd_law_413 (lv_at hl6 0 rfl) ?_
  refine lv_i2l hx hb kd_law_415 rfl ?_
  refine W.lcmp hx hb kd_law_416 ?_
  have z0 : f1 (0 : Int32).toNatClampNeg = v2.toInt64 := hf2 z
  rw [z0, lg_self]
  exact lv_if_eq hx hb kd_law_417 rfl (fun _ => fin) (fun z => absurd rfl z)
theorem klt_112 : Cond.methodLink "LinkedCoresLaw" 112 (mw_y 359) ∈ mw_good := mw_good_of (mw_tm13 (List.mem_of_getElem? (i := 101) rfl)) rfl
theorem kx_instruction (C : kCtx l dC dI ad aV cA qo p s m meth c b L xs) (St : kStt dC dI ad cA qo b s j h f H locs cells slots) (hl : lv_has ls 7 (kLv ad qo b j)) (hj : 4 * j + 4 ≤ L) (kk : ∀ (h' : mj_H) (f' : Nat → Int64) (H' : Heap) (locs' : List Loc) (cells' slots' : Nat) (ls' : Array Slot), kStt dC dI ad cA qo b s (j + 1) h' f' H' locs' cells' slots' → lv_has ls' 7 (kLv ad qo b j) → W p l e room_1 s m #[.ref b] below meth c H' locs' cells' slots' Q (F0 m 1193 ls' [])) : W p l e room_1 s m #[.ref b] below meth c H locs cells slots Q (F0 m 425 ls []) := by
  obtain ⟨k, hqn, hqA, F, hX, hbl, hca, hL, hr, hlk⟩ := C
  obtain ⟨hP, hO, hS, J, hh, hc9, hs9⟩ := St
  obtain ⟨hx, hb, hml, hown, hts, hK, hW0⟩ := id F
  have hbA : ¬ kNew s b := fun z => by have z : s.heap.size ≤ b := z; omega
  have hl : lv_has ls 7 [(4, .int (nI (4 * j))), (3, .ref qo), (2, .ref (ad 15 0)), (1, .ref (ad 2 0)), (0, .ref b)] := hl
  have hi1 : vp_in (nI (4 * j) + 1) L := kin (a := 4 * j) (k := 1) (by omega) hL
  have hi2 : vp_in (nI (4 * j) + 2) L := kin (a := 4 * j) (k := 2) (by omega) hL
  have hi3 : vp_in (nI (4 * j) + 3) L := kin (a := 4 * j) (k := 3) (by omega) hL
  refine lv_aload_n (k := 1) hx hb kd_law_425 rfl (lv_at hl 3 rfl) ?_
  refine lv_aload_n (k := 0) hx hb kd_law_426 rfl (lv_at hl 4 rfl) ?_
  refine lv_iload hx hb kd_law_427 (lv_at hl 0 rfl) ?_
  refine lv_iconst (v := 1) hx hb kd_law_429 rfl ?_
  refine lv_iadd hx hb kd_law_430 ?_
  refine va_sld hx hb hX hbl hbA hS hi1 kd_law_431 ?_
  refine lv_aload_n (k := 0) hx hb kd_law_432 rfl (lv_at hl 4 rfl) ?_
  refine lv_iload hx hb kd_law_433 (lv_at hl 0 rfl) ?_
  refine lv_iconst (v := 2) hx hb kd_law_435 rfl ?_
  refine lv_iadd hx hb kd_law_436 ?_
  refine va_sld hx hb hX hbl hbA hS hi2 kd_law_437 ?_
  refine lv_aload_n (k := 0) hx hb kd_law_438 rfl (lv_at hl 4 rfl) ?_
  refine lv_iload hx hb kd_law_439 (lv_at hl 0 rfl) ?_
  refine lv_iconst (v := 3) hx hb kd_law_441 rfl ?_
  refine lv_iadd hx hb kd_law_442 ?_
  refine va_sld hx hb hX hbl hbA hS hi3 kd_law_443 ?_
  refine lv_aload_n (k := 3) hx hb kd_law_444 rfl (lv_at hl 1 rfl) ?_
  refine kl_w (As := [.ref (ad 2 0), .int (xs (nI (4 * j) + 1).toNatClampNeg), .int (xs (nI (4 * j) + 2).toNatClampNeg), .int (xs (nI (4 * j) + 3).toNatClampNeg), .ref qo]) (K := 30000 * (j + 1)) (EX := [3, 4, 2, 1]) (y := ky_instruction) (cc9 := method_8_code) (maxL := 6) (hs := khs_instruction) k hqn F kcw_instruction kst_instruction ki_law klw_instruction ⟨by decide, by decide⟩ rfl (by decide) hl.1 hP hO hS kd_law_445 ⟨by decide, by decide⟩ ⟨by show cells + 1 ≤ 1208192; omega, by show slots + 6 ≤ 5428522; omega⟩ ((j_instruction J (by omega) (xs (nI (4 * j) + 1).toNatClampNeg) (xs (nI (4 * j) + 2).toNatClampNeg) (xs (nI (4 * j) + 3).toNatClampNeg)).le (by omega)) (fun v h1 e1 => kt_instruction_r k hqA hh e1) (fun x n0 h1 e1 hn => kt_instruction_t k hqA hca hh e1 hn) (by decide) (fun r v2 h1 h2 f1 H locs hP hO hh1 hS e2 hr2 hf2 J2 => ?_)
  refine lv_istore (nL := 7) (lv' := [(5, .int r), (4, .int (nI (4 * j))), (3, .ref qo), (2, .ref (ad 15 0)), (1, .ref (ad 2 0)), (0, .ref b)]) hx hb kd_law_448 hl (by decide) rfl (fun ls5 hl5 => ?_)
  refine lv_aload_n (k := 2) hx hb kd_law_450 rfl (lv_at hl5 3 rfl) ?_
  refine lv_aload_n (k := 0) hx hb kd_law_451 rfl (lv_at hl5 5 rfl) ?_
  refine lv_iload hx hb kd_law_452 (lv_at hl5 1 rfl) ?_
  refine lv_iconst (v := 1) hx hb kd_law_454 rfl ?_
  refine lv_iadd hx hb kd_law_455 ?_
  refine va_sld hx hb hX hbl hbA hS hi1 kd_law_456 ?_
  refine lv_aload_n (k := 0) hx hb kd_law_457 rfl (lv_at hl5 5 rfl) ?_
  refine lv_iload hx hb kd_law_458 (lv_at hl5 1 rfl) ?_
  refine lv_iconst (v := 2) hx hb kd_law_460 rfl ?_
  refine lv_iadd hx hb kd_law_461 ?_
  refine va_sld hx hb hX hbl hbA hS hi2 kd_law_462 ?_
  refine lv_aload_n (k := 0) hx hb kd_law_463 rfl (lv_at hl5 5 rfl) ?_
  refine lv_iload hx hb kd_law_464 (lv_at hl5 1 rfl) ?_
  refine lv_iconst (v := 3) hx hb kd_law_466 rfl ?_
  refine lv_iadd hx hb kd_law_467 ?_
  refine va_sld hx hb hX hbl hbA hS hi3 kd_law_468 ?_
  refine kl_i (d := 0) (as := [vI (xs (nI (4 * j) + 1).toNatClampNeg), vI (xs (nI (4 * j) + 2).toNatClampNeg), vI (xs (nI (4 * j) + 3).toNatClampNeg)]) (mj := 359) (g := 15) (i := 0) (rest := []) k F hqn hqA (by decide) rfl klt_112 (by decide +kernel) rfl e2 (Nat.le_of_ble_eq_true rfl) (fun v hv => by simp at hv; rcases hv with rfl | rfl | rfl <;> trivial) hh1 rfl (Nat.zero_le _) hl5.1 hP hO hS kd_law_469 ⟨by decide, by decide⟩ ⟨by show cells + 1 ≤ 1208192; omega, by show slots + 6 ≤ 5428522; omega⟩ (fun H locs hP hO hh2 hS => ?_)
  refine lv_istore (nL := 7) (lv' := [(6, .int v2), (5, .int r), (4, .int (nI (4 * j))), (3, .ref qo), (2, .ref (ad 15 0)), (1, .ref (ad 2 0)), (0, .ref b)]) hx hb kd_law_472 hl5 (by decide) rfl (fun ls6 hl6 => ?_)
  refine lv_aload_n (k := 2) hx hb kd_law_474 rfl (lv_at hl6 4 rfl) ?_
  refine kl_i (d := 0) (as := []) (mj := 197) (g := 15) (i := 0) (rest := []) k F hqn hqA (by decide) rfl klt_88 (by decide +kernel) rfl (j_thrown h2) (Nat.le_of_ble_eq_true rfl) (fun v hv => absurd hv List.not_mem_nil) hh2 rfl (Nat.zero_le _) hl6.1 hP hO hS kd_law_475 ⟨by decide, by decide⟩ ⟨by show cells + 1 ≤ 1208192; omega, by show slots + 6 ≤ 5428522; omega⟩ (fun H locs hP hO hh3 hS => ?_)
  refine lv_iload hx hb kd_law_478 (lv_at hl6 1 rfl) ?_
  refine lv_icmp_eq hx hb kd_law_480 rfl (fun _ => ?_) (fun z => absurd hr2 z)
  refine lv_iload hx hb kd_law_485 (lv_at hl6 1 rfl) ?_
  have fin : W p l e room_1 s m #[.ref b] below meth c H locs (cells + 1) (slots + 6) Q (F0 m 502 ls6 []) := by
    refine lv_goto hx hb kd_law_502 rfl ?_
    exact kk h2 f1 H locs _ _ _ ⟨hP, hO, hS, J2, hh3, by omega, by omega⟩ (lv_sub hl6 [2, 3, 4, 5, 6] rfl)
  refine lv_if_ne hx hb kd_law_487 rfl (fun _ => fin) (fun z => ?_)
  refine lv_aload_n (k := 3) hx hb kd_law_490 rfl (lv_at hl6 3 rfl) ?_
  refine lv_iconst (v := 0) hx hb kd_law_491 rfl ?_
  refine va_lald (D := (dC, dI)) (tys := mw_tys cA) (a := qo) (cA := cA 3) (n := 1) (f := f1) (i := 0) hx hb hK.1 (kW2_P hP hO) 200 3 (by rw [List.getElem?_append_right (by rw [kW2_len]; exact Nat.le_refl _), kW2_len]; rfl) rfl (fun z => by rcases z with z | z; exact absurd z (by decide); exact absurd z (by decide)) kd_law_492 ?_
  refine lv_iload hx hb kd_law_493 (lv_at hl6 0 rfl) ?_
  refine lv_i2l hx hb kd_law_495 rfl ?_
  refine W.lcmp hx hb kd_law_496 ?_
  have z0 : f1 (0 : Int32).toNatClampNeg = v2.toInt64 := hf2 z
  rw [z0, lg_self]
  exact lv_if_eq hx hb kd_law_497 rfl (fun _ => fin) (fun z => absurd rfl z)
theorem klt_115 : Cond.methodLink "LinkedCoresLaw" 115 (mw_y 360) ∈ mw_good := mw_good_of (mw_tm13 (List.mem_of_getElem? (i := 105) rfl)) rfl
theorem kx_link (C : kCtx l dC dI ad aV cA qo p s m meth c b L xs) (St : kStt dC dI ad cA qo b s j h f H locs cells slots) (hl : lv_has ls 7 (kLv ad qo b j)) (hj : 4 * j + 4 ≤ L) (kk : ∀ (h' : mj_H) (f' : Nat → Int64) (H' : Heap) (locs' : List Loc) (cells' slots' : Nat) (ls' : Array Slot), kStt dC dI ad cA qo b s (j + 1) h' f' H' locs' cells' slots' → lv_has ls' 7 (kLv ad qo b j) → W p l e room_1 s m #[.ref b] below meth c H' locs' cells' slots' Q (F0 m 1193 ls' [])) : W p l e room_1 s m #[.ref b] below meth c H locs cells slots Q (F0 m 505 ls []) := by
  obtain ⟨k, hqn, hqA, F, hX, hbl, hca, hL, hr, hlk⟩ := C
  obtain ⟨hP, hO, hS, J, hh, hc9, hs9⟩ := St
  obtain ⟨hx, hb, hml, hown, hts, hK, hW0⟩ := id F
  have hbA : ¬ kNew s b := fun z => by have z : s.heap.size ≤ b := z; omega
  have hl : lv_has ls 7 [(4, .int (nI (4 * j))), (3, .ref qo), (2, .ref (ad 15 0)), (1, .ref (ad 2 0)), (0, .ref b)] := hl
  have hi1 : vp_in (nI (4 * j) + 1) L := kin (a := 4 * j) (k := 1) (by omega) hL
  have hi2 : vp_in (nI (4 * j) + 2) L := kin (a := 4 * j) (k := 2) (by omega) hL
  have hi3 : vp_in (nI (4 * j) + 3) L := kin (a := 4 * j) (k := 3) (by omega) hL
  refine lv_aload_n (k := 1) hx hb kd_law_505 rfl (lv_at hl 3 rfl) ?_
  refine lv_aload_n (k := 0) hx hb kd_law_506 rfl (lv_at hl 4 rfl) ?_
  refine lv_iload hx hb kd_law_507 (lv_at hl 0 rfl) ?_
  refine lv_iconst (v := 1) hx hb kd_law_509 rfl ?_
  refine lv_iadd hx hb kd_law_510 ?_
  refine va_sld hx hb hX hbl hbA hS hi1 kd_law_511 ?_
  refine lv_aload_n (k := 0) hx hb kd_law_512 rfl (lv_at hl 4 rfl) ?_
  refine lv_iload hx hb kd_law_513 (lv_at hl 0 rfl) ?_
  refine lv_iconst (v := 2) hx hb kd_law_515 rfl ?_
  refine lv_iadd hx hb kd_law_516 ?_
  refine va_sld hx hb hX hbl hbA hS hi2 kd_law_517 ?_
  refine lv_aload_n (k := 3) hx hb kd_law_518 rfl (lv_at hl 1 rfl) ?_
  refine kl_w (As := [.ref (ad 2 0), .int (xs (nI (4 * j) + 1).toNatClampNeg), .int (xs (nI (4 * j) + 2).toNatClampNeg), .ref qo]) (K := 30000 * (j + 1)) (EX := [3, 2, 1]) (y := ky_link) (cc9 := method_9_code) (maxL := 5) (hs := khs_link) k hqn F kcw_link kst_link ki_law klw_link ⟨by decide, by decide⟩ rfl (by decide) hl.1 hP hO hS kd_law_519 ⟨by decide, by decide⟩ ⟨by show cells + 1 ≤ 1208192; omega, by show slots + 6 ≤ 5428522; omega⟩ ((j_link J (by omega) (xs (nI (4 * j) + 1).toNatClampNeg) (xs (nI (4 * j) + 2).toNatClampNeg)).le (by omega)) (fun v h1 e1 => kt_link_r k hqA hh e1) (fun x n0 h1 e1 hn => kt_link_t k hqA hca hh e1 hn) (by decide) (fun r v2 h1 h2 f1 H locs hP hO hh1 hS e2 hr2 hf2 J2 => ?_)
  refine lv_istore (nL := 7) (lv' := [(5, .int r), (4, .int (nI (4 * j))), (3, .ref qo), (2, .ref (ad 15 0)), (1, .ref (ad 2 0)), (0, .ref b)]) hx hb kd_law_522 hl (by decide) rfl (fun ls5 hl5 => ?_)
  refine lv_aload_n (k := 2) hx hb kd_law_524 rfl (lv_at hl5 3 rfl) ?_
  refine lv_aload_n (k := 0) hx hb kd_law_525 rfl (lv_at hl5 5 rfl) ?_
  refine lv_iload hx hb kd_law_526 (lv_at hl5 1 rfl) ?_
  refine lv_iconst (v := 1) hx hb kd_law_528 rfl ?_
  refine lv_iadd hx hb kd_law_529 ?_
  refine va_sld hx hb hX hbl hbA hS hi1 kd_law_530 ?_
  refine lv_aload_n (k := 0) hx hb kd_law_531 rfl (lv_at hl5 5 rfl) ?_
  refine lv_iload hx hb kd_law_532 (lv_at hl5 1 rfl) ?_
  refine lv_iconst (v := 2) hx hb kd_law_534 rfl ?_
  refine lv_iadd hx hb kd_law_535 ?_
  refine va_sld hx hb hX hbl hbA hS hi2 kd_law_536 ?_
  refine kl_i (d := 0) (as := [vI (xs (nI (4 * j) + 1).toNatClampNeg), vI (xs (nI (4 * j) + 2).toNatClampNeg)]) (mj := 360) (g := 15) (i := 0) (rest := []) k F hqn hqA (by decide) rfl klt_115 (by decide +kernel) rfl e2 (Nat.le_of_ble_eq_true rfl) (fun v hv => by simp at hv; rcases hv with rfl | rfl <;> trivial) hh1 rfl (Nat.zero_le _) hl5.1 hP hO hS kd_law_537 ⟨by decide, by decide⟩ ⟨by show cells + 1 ≤ 1208192; omega, by show slots + 6 ≤ 5428522; omega⟩ (fun H locs hP hO hh2 hS => ?_)
  refine lv_istore (nL := 7) (lv' := [(6, .int v2), (5, .int r), (4, .int (nI (4 * j))), (3, .ref qo), (2, .ref (ad 15 0)), (1, .ref (ad 2 0)), (0, .ref b)]) hx hb kd_law_540 hl5 (by decide) rfl (fun ls6 hl6 => ?_)
  refine lv_aload_n (k := 2) hx hb kd_law_542 rfl (lv_at hl6 4 rfl) ?_
  refine kl_i (d := 0) (as := []) (mj := 197) (g := 15) (i := 0) (rest := []) k F hqn hqA (by decide) rfl klt_88 (by decide +kernel) rfl (j_thrown h2) (Nat.le_of_ble_eq_true rfl) (fun v hv => absurd hv List.not_mem_nil) hh2 rfl (Nat.zero_le _) hl6.1 hP hO hS kd_law_543 ⟨by decide, by decide⟩ ⟨by show cells + 1 ≤ 1208192; omega, by show slots + 6 ≤ 5428522; omega⟩ (fun H locs hP hO hh3 hS => ?_)
  refine lv_iload hx hb kd_law_546 (lv_at hl6 1 rfl) ?_
  refine lv_icmp_eq hx hb kd_law_548 rfl (fun _ => ?_) (fun z => absurd hr2 z)
  refine lv_iload hx hb kd_law_553 (lv_at hl6 1 rfl) ?_
  have fin : W p l e room_1 s m #[.ref b] below meth c H locs (cells + 1) (slots + 6) Q (F0 m 570 ls6 []) := by
    refine lv_goto hx hb kd_law_570 rfl ?_
    exact kk h2 f1 H locs _ _ _ ⟨hP, hO, hS, J2, hh3, by omega, by omega⟩ (lv_sub hl6 [2, 3, 4, 5, 6] rfl)
  refine lv_if_ne hx hb kd_law_555 rfl (fun _ => fin) (fun z => ?_)
  refine lv_aload_n (k := 3) hx hb kd_law_558 rfl (lv_at hl6 3 rfl) ?_
  refine lv_iconst (v := 0) hx hb kd_law_559 rfl ?_
  refine va_lald (D := (dC, dI)) (tys := mw_tys cA) (a := qo) (cA := cA 3) (n := 1) (f := f1) (i := 0) hx hb hK.1 (kW2_P hP hO) 200 3 (by rw [List.getElem?_append_right (by rw [kW2_len]; exact Nat.le_refl _), kW2_len]; rfl) rfl (fun z => by rcases z with z | z; exact absurd z (by decide); exact absurd z (by decide)) kd_law_560 ?_
  refine lv_iload hx hb kd_law_561 (lv_at hl6 0 rfl) ?_
  refine lv_i2l hx hb kd_law_563 rfl ?_
  refine W.lcmp hx hb kd_law_564 ?_
  have z0 : f1 (0 : Int32).toNatClampNeg = v2.toInt64 := hf2 z
  rw [z0, lg_self]
  exact lv_if_eq hx hb kd_law_565 rfl (fun _ => fin) (fun z => absurd rfl z)
theorem klt_119 : Cond.methodLink "LinkedCoresLaw" 119 (mw_y 349) ∈ mw_good := mw_good_of (mw_tm12 (List.mem_of_getElem? (i := 193) rfl)) rfl
theorem kx_begin (C : kCtx l dC dI ad aV cA qo p s m meth c b L xs) (St : kStt dC dI ad cA qo b s j h f H locs cells slots) (hl : lv_has ls 7 (kLv ad qo b j)) (hj : 4 * j + 4 ≤ L) (kk : ∀ (h' : mj_H) (f' : Nat → Int64) (H' : Heap) (locs' : List Loc) (cells' slots' : Nat) (ls' : Array Slot), kStt dC dI ad cA qo b s (j + 1) h' f' H' locs' cells' slots' → lv_has ls' 7 (kLv ad qo b j) → W p l e room_1 s m #[.ref b] below meth c H' locs' cells' slots' Q (F0 m 1193 ls' [])) : W p l e room_1 s m #[.ref b] below meth c H locs cells slots Q (F0 m 573 ls []) := by
  obtain ⟨k, hqn, hqA, F, hX, hbl, hca, hL, hr, hlk⟩ := C
  obtain ⟨hP, hO, hS, J, hh, hc9, hs9⟩ := St
  obtain ⟨hx, hb, hml, hown, hts, hK, hW0⟩ := id F
  have hbA : ¬ kNew s b := fun z => by have z : s.heap.size ≤ b := z; omega
  have hl : lv_has ls 7 [(4, .int (nI (4 * j))), (3, .ref qo), (2, .ref (ad 15 0)), (1, .ref (ad 2 0)), (0, .ref b)] := hl
  have hi1 : vp_in (nI (4 * j) + 1) L := kin (a := 4 * j) (k := 1) (by omega) hL
  have hi2 : vp_in (nI (4 * j) + 2) L := kin (a := 4 * j) (k := 2) (by omega) hL
  have hi3 : vp_in (nI (4 * j) + 3) L := kin (a := 4 * j) (k := 3) (by omega) hL
  refine lv_aload_n (k := 1) hx hb kd_law_573 rfl (lv_at hl 3 rfl) ?_
  refine kl_wv (As := [.ref (ad 2 0)]) (K := 30000 * (j + 1)) (EX := [3]) (y := ky_begin) (cc9 := method_10_code) (maxL := 2) (hs := khs_begin) k hqn F kcw_begin kst_begin ki_law klw_begin ⟨by decide, by decide⟩ rfl (by decide) hl.1 hP hO hS kd_law_574 ⟨by decide, by decide⟩ ⟨by show cells + 1 ≤ 1208192; omega, by show slots + 6 ≤ 5428522; omega⟩ ((j_begin J ).le (by omega)) (fun h1 e1 => kt_begin_r k hqA hh e1) (fun x n0 h1 e1 hn => kt_begin_t k hqA hca hh e1 hn) (fun r h1 h2 f1 H locs hP hO hh1 hS e2 hr2 J2 => ?_)
  refine lv_istore (nL := 7) (lv' := [(5, .int r), (4, .int (nI (4 * j))), (3, .ref qo), (2, .ref (ad 15 0)), (1, .ref (ad 2 0)), (0, .ref b)]) hx hb kd_law_577 hl (by decide) rfl (fun ls5 hl5 => ?_)
  refine lv_aload_n (k := 2) hx hb kd_law_579 rfl (lv_at hl5 3 rfl) ?_
  refine kl_v (d := 0) (as := []) (mj := 349) (g := 15) (i := 0) (rest := []) k F hqn hqA (by decide) rfl klt_119 (by decide +kernel) rfl e2 (Nat.le_of_ble_eq_true rfl) (fun v hv => absurd hv List.not_mem_nil) hh1 rfl (Nat.zero_le _) hl5.1 hP hO hS kd_law_580 ⟨by decide, by decide⟩ ⟨by show cells + 1 ≤ 1208192; omega, by show slots + 6 ≤ 5428522; omega⟩ (fun H locs hP hO hh2 hS => ?_)
  refine lv_aload_n (k := 2) hx hb kd_law_583 rfl (lv_at hl5 3 rfl) ?_
  refine kl_i (d := 0) (as := []) (mj := 197) (g := 15) (i := 0) (rest := []) k F hqn hqA (by decide) rfl klt_88 (by decide +kernel) rfl (j_thrown h2) (Nat.le_of_ble_eq_true rfl) (fun v hv => absurd hv List.not_mem_nil) hh2 rfl (Nat.zero_le _) hl5.1 hP hO hS kd_law_584 ⟨by decide, by decide⟩ ⟨by show cells + 1 ≤ 1208192; omega, by show slots + 6 ≤ 5428522; omega⟩ (fun H locs hP hO hh3 hS => ?_)
  refine lv_iload hx hb kd_law_587 (lv_at hl5 0 rfl) ?_
  refine lv_icmp_eq hx hb kd_law_589 rfl (fun _ => ?_) (fun z => absurd hr2 z)
  refine lv_goto hx hb kd_law_594 rfl ?_
  exact kk h2 f1 H locs _ _ _ ⟨hP, hO, hS, J2, hh3, by omega, by omega⟩ (lv_sub hl5 [1, 2, 3, 4, 5] rfl)
theorem klt_122 : Cond.methodLink "LinkedCoresLaw" 122 (mw_y 350) ∈ mw_good := mw_good_of (mw_tm12 (List.mem_of_getElem? (i := 197) rfl)) rfl
theorem kx_input (C : kCtx l dC dI ad aV cA qo p s m meth c b L xs) (St : kStt dC dI ad cA qo b s j h f H locs cells slots) (hl : lv_has ls 7 (kLv ad qo b j)) (hj : 4 * j + 4 ≤ L) (kk : ∀ (h' : mj_H) (f' : Nat → Int64) (H' : Heap) (locs' : List Loc) (cells' slots' : Nat) (ls' : Array Slot), kStt dC dI ad cA qo b s (j + 1) h' f' H' locs' cells' slots' → lv_has ls' 7 (kLv ad qo b j) → W p l e room_1 s m #[.ref b] below meth c H' locs' cells' slots' Q (F0 m 1193 ls' [])) : W p l e room_1 s m #[.ref b] below meth c H locs cells slots Q (F0 m 597 ls []) := by
  obtain ⟨k, hqn, hqA, F, hX, hbl, hca, hL, hr, hlk⟩ := C
  obtain ⟨hP, hO, hS, J, hh, hc9, hs9⟩ := St
  obtain ⟨hx, hb, hml, hown, hts, hK, hW0⟩ := id F
  have hbA : ¬ kNew s b := fun z => by have z : s.heap.size ≤ b := z; omega
  have hl : lv_has ls 7 [(4, .int (nI (4 * j))), (3, .ref qo), (2, .ref (ad 15 0)), (1, .ref (ad 2 0)), (0, .ref b)] := hl
  have hi1 : vp_in (nI (4 * j) + 1) L := kin (a := 4 * j) (k := 1) (by omega) hL
  have hi2 : vp_in (nI (4 * j) + 2) L := kin (a := 4 * j) (k := 2) (by omega) hL
  have hi3 : vp_in (nI (4 * j) + 3) L := kin (a := 4 * j) (k := 3) (by omega) hL
  refine lv_aload_n (k := 1) hx hb kd_law_597 rfl (lv_at hl 3 rfl) ?_
  refine lv_aload_n (k := 0) hx hb kd_law_598 rfl (lv_at hl 4 rfl) ?_
  refine lv_iload hx hb kd_law_599 (lv_at hl 0 rfl) ?_
  refine lv_iconst (v := 1) hx hb kd_law_601 rfl ?_
  refine lv_iadd hx hb kd_law_602 ?_
  refine va_sld hx hb hX hbl hbA hS hi1 kd_law_603 ?_
  refine lv_aload_n (k := 3) hx hb kd_law_604 rfl (lv_at hl 1 rfl) ?_
  refine kl_w (As := [.ref (ad 2 0), .int (xs (nI (4 * j) + 1).toNatClampNeg), .ref qo]) (K := 30000 * (j + 1)) (EX := [3, 5]) (y := ky_input) (cc9 := method_11_code) (maxL := 4) (hs := khs_input) k hqn F kcw_input kst_input ki_law klw_input ⟨by decide, by decide⟩ rfl (by decide) hl.1 hP hO hS kd_law_605 ⟨by decide, by decide⟩ ⟨by show cells + 1 ≤ 1208192; omega, by show slots + 6 ≤ 5428522; omega⟩ ((j_input J (xs (nI (4 * j) + 1).toNatClampNeg)).le (by omega)) (fun v h1 e1 => kt_input_r k hqA hh e1) (fun x n0 h1 e1 hn => kt_input_t k hqA hca hh e1 hn) (by decide) (fun r v2 h1 h2 f1 H locs hP hO hh1 hS e2 hr2 hf2 J2 => ?_)
  refine lv_istore (nL := 7) (lv' := [(5, .int r), (4, .int (nI (4 * j))), (3, .ref qo), (2, .ref (ad 15 0)), (1, .ref (ad 2 0)), (0, .ref b)]) hx hb kd_law_608 hl (by decide) rfl (fun ls5 hl5 => ?_)
  refine lv_aload_n (k := 2) hx hb kd_law_610 rfl (lv_at hl5 3 rfl) ?_
  refine lv_aload_n (k := 0) hx hb kd_law_611 rfl (lv_at hl5 5 rfl) ?_
  refine lv_iload hx hb kd_law_612 (lv_at hl5 1 rfl) ?_
  refine lv_iconst (v := 1) hx hb kd_law_614 rfl ?_
  refine lv_iadd hx hb kd_law_615 ?_
  refine va_sld hx hb hX hbl hbA hS hi1 kd_law_616 ?_
  refine kl_i (d := 0) (as := [vI (xs (nI (4 * j) + 1).toNatClampNeg)]) (mj := 350) (g := 15) (i := 0) (rest := []) k F hqn hqA (by decide) rfl klt_122 (by decide +kernel) rfl e2 (Nat.le_of_ble_eq_true rfl) (fun v hv => by simp at hv; subst hv; trivial) hh1 rfl (Nat.zero_le _) hl5.1 hP hO hS kd_law_617 ⟨by decide, by decide⟩ ⟨by show cells + 1 ≤ 1208192; omega, by show slots + 6 ≤ 5428522; omega⟩ (fun H locs hP hO hh2 hS => ?_)
  refine lv_istore (nL := 7) (lv' := [(6, .int v2), (5, .int r), (4, .int (nI (4 * j))), (3, .ref qo), (2, .ref (ad 15 0)), (1, .ref (ad 2 0)), (0, .ref b)]) hx hb kd_law_620 hl5 (by decide) rfl (fun ls6 hl6 => ?_)
  refine lv_aload_n (k := 2) hx hb kd_law_622 rfl (lv_at hl6 4 rfl) ?_
  refine kl_i (d := 0) (as := []) (mj := 197) (g := 15) (i := 0) (rest := []) k F hqn hqA (by decide) rfl klt_88 (by decide +kernel) rfl (j_thrown h2) (Nat.le_of_ble_eq_true rfl) (fun v hv => absurd hv List.not_mem_nil) hh2 rfl (Nat.zero_le _) hl6.1 hP hO hS kd_law_623 ⟨by decide, by decide⟩ ⟨by show cells + 1 ≤ 1208192; omega, by show slots + 6 ≤ 5428522; omega⟩ (fun H locs hP hO hh3 hS => ?_)
  refine lv_iload hx hb kd_law_626 (lv_at hl6 1 rfl) ?_
  refine lv_icmp_eq hx hb kd_law_628 rfl (fun _ => ?_) (fun z => absurd hr2 z)
  refine lv_iload hx hb kd_law_633 (lv_at hl6 1 rfl) ?_
  have fin : W p l e room_1 s m #[.ref b] below meth c H locs (cells + 1) (slots + 6) Q (F0 m 650 ls6 []) := by
    refine lv_goto hx hb kd_law_650 rfl ?_
    exact kk h2 f1 H locs _ _ _ ⟨hP, hO, hS, J2, hh3, by omega, by omega⟩ (lv_sub hl6 [2, 3, 4, 5, 6] rfl)
  refine lv_if_ne hx hb kd_law_635 rfl (fun _ => fin) (fun z => ?_)
  refine lv_aload_n (k := 3) hx hb kd_law_638 rfl (lv_at hl6 3 rfl) ?_
  refine lv_iconst (v := 0) hx hb kd_law_639 rfl ?_
  refine va_lald (D := (dC, dI)) (tys := mw_tys cA) (a := qo) (cA := cA 3) (n := 1) (f := f1) (i := 0) hx hb hK.1 (kW2_P hP hO) 200 3 (by rw [List.getElem?_append_right (by rw [kW2_len]; exact Nat.le_refl _), kW2_len]; rfl) rfl (fun z => by rcases z with z | z; exact absurd z (by decide); exact absurd z (by decide)) kd_law_640 ?_
  refine lv_iload hx hb kd_law_641 (lv_at hl6 0 rfl) ?_
  refine lv_i2l hx hb kd_law_643 rfl ?_
  refine W.lcmp hx hb kd_law_644 ?_
  have z0 : f1 (0 : Int32).toNatClampNeg = v2.toInt64 := hf2 z
  rw [z0, lg_self]
  exact lv_if_eq hx hb kd_law_645 rfl (fun _ => fin) (fun z => absurd rfl z)
theorem klt_125 : Cond.methodLink "LinkedCoresLaw" 125 (mw_y 352) ∈ mw_good := mw_good_of (mw_tm12 (List.mem_of_getElem? (i := 225) rfl)) rfl
theorem kx_run (C : kCtx l dC dI ad aV cA qo p s m meth c b L xs) (St : kStt dC dI ad cA qo b s j h f H locs cells slots) (hl : lv_has ls 7 (kLv ad qo b j)) (hj : 4 * j + 4 ≤ L) (kk : ∀ (h' : mj_H) (f' : Nat → Int64) (H' : Heap) (locs' : List Loc) (cells' slots' : Nat) (ls' : Array Slot), kStt dC dI ad cA qo b s (j + 1) h' f' H' locs' cells' slots' → lv_has ls' 7 (kLv ad qo b j) → W p l e room_1 s m #[.ref b] below meth c H' locs' cells' slots' Q (F0 m 1193 ls' [])) : W p l e room_1 s m #[.ref b] below meth c H locs cells slots Q (F0 m 653 ls []) := by
  obtain ⟨k, hqn, hqA, F, hX, hbl, hca, hL, hr, hlk⟩ := C
  obtain ⟨hP, hO, hS, J, hh, hc9, hs9⟩ := St
  obtain ⟨hx, hb, hml, hown, hts, hK, hW0⟩ := id F
  have hbA : ¬ kNew s b := fun z => by have z : s.heap.size ≤ b := z; omega
  have hl : lv_has ls 7 [(4, .int (nI (4 * j))), (3, .ref qo), (2, .ref (ad 15 0)), (1, .ref (ad 2 0)), (0, .ref b)] := hl
  have hi1 : vp_in (nI (4 * j) + 1) L := kin (a := 4 * j) (k := 1) (by omega) hL
  have hi2 : vp_in (nI (4 * j) + 2) L := kin (a := 4 * j) (k := 2) (by omega) hL
  have hi3 : vp_in (nI (4 * j) + 3) L := kin (a := 4 * j) (k := 3) (by omega) hL
  refine lv_aload_n (k := 1) hx hb kd_law_653 rfl (lv_at hl 3 rfl) ?_
  refine lv_aload_n (k := 0) hx hb kd_law_654 rfl (lv_at hl 4 rfl) ?_
  refine lv_iload hx hb kd_law_655 (lv_at hl 0 rfl) ?_
  refine lv_iconst (v := 1) hx hb kd_law_657 rfl ?_
  refine lv_iadd hx hb kd_law_658 ?_
  refine va_sld hx hb hX hbl hbA hS hi1 kd_law_659 ?_
  refine lv_aload_n (k := 0) hx hb kd_law_660 rfl (lv_at hl 4 rfl) ?_
  refine lv_iload hx hb kd_law_661 (lv_at hl 0 rfl) ?_
  refine lv_iconst (v := 2) hx hb kd_law_663 rfl ?_
  refine lv_iadd hx hb kd_law_664 ?_
  refine va_sld hx hb hX hbl hbA hS hi2 kd_law_665 ?_
  refine lv_aload_n (k := 3) hx hb kd_law_666 rfl (lv_at hl 1 rfl) ?_
  refine kl_w (As := [.ref (ad 2 0), .int (xs (nI (4 * j) + 1).toNatClampNeg), .int (xs (nI (4 * j) + 2).toNatClampNeg), .ref qo]) (K := 30000 * (j + 1)) (EX := [3, 4, 1]) (y := ky_run) (cc9 := method_12_code) (maxL := 5) (hs := khs_run) k hqn F kcw_run kst_run ki_law klw_run ⟨by decide, by decide⟩ rfl (by decide) hl.1 hP hO hS kd_law_667 ⟨by decide, by decide⟩ ⟨by show cells + 1 ≤ 1208192; omega, by show slots + 6 ≤ 5428522; omega⟩ ((j_run J (by omega) (xs (nI (4 * j) + 1).toNatClampNeg) (xs (nI (4 * j) + 2).toNatClampNeg)).le (by omega)) (fun v h1 e1 => kt_run_r k hqA hh e1) (fun x n0 h1 e1 hn => kt_run_t k hqA hca hh e1 hn) (by decide) (fun r v2 h1 h2 f1 H locs hP hO hh1 hS e2 hr2 hf2 J2 => ?_)
  refine lv_istore (nL := 7) (lv' := [(5, .int r), (4, .int (nI (4 * j))), (3, .ref qo), (2, .ref (ad 15 0)), (1, .ref (ad 2 0)), (0, .ref b)]) hx hb kd_law_670 hl (by decide) rfl (fun ls5 hl5 => ?_)
  refine lv_aload_n (k := 2) hx hb kd_law_672 rfl (lv_at hl5 3 rfl) ?_
  refine lv_aload_n (k := 0) hx hb kd_law_673 rfl (lv_at hl5 5 rfl) ?_
  refine lv_iload hx hb kd_law_674 (lv_at hl5 1 rfl) ?_
  refine lv_iconst (v := 1) hx hb kd_law_676 rfl ?_
  refine lv_iadd hx hb kd_law_677 ?_
  refine va_sld hx hb hX hbl hbA hS hi1 kd_law_678 ?_
  refine lv_aload_n (k := 0) hx hb kd_law_679 rfl (lv_at hl5 5 rfl) ?_
  refine lv_iload hx hb kd_law_680 (lv_at hl5 1 rfl) ?_
  refine lv_iconst (v := 2) hx hb kd_law_682 rfl ?_
  refine lv_iadd hx hb kd_law_683 ?_
  refine va_sld hx hb hX hbl hbA hS hi2 kd_law_684 ?_
  refine kl_i (d := 0) (as := [vI (xs (nI (4 * j) + 1).toNatClampNeg), vI (xs (nI (4 * j) + 2).toNatClampNeg)]) (mj := 352) (g := 15) (i := 0) (rest := []) k F hqn hqA (by decide) rfl klt_125 (by decide +kernel) rfl e2 (Nat.le_of_ble_eq_true rfl) (fun v hv => by simp at hv; rcases hv with rfl | rfl <;> trivial) hh1 rfl (Nat.zero_le _) hl5.1 hP hO hS kd_law_685 ⟨by decide, by decide⟩ ⟨by show cells + 1 ≤ 1208192; omega, by show slots + 6 ≤ 5428522; omega⟩ (fun H locs hP hO hh2 hS => ?_)
  refine lv_istore (nL := 7) (lv' := [(6, .int v2), (5, .int r), (4, .int (nI (4 * j))), (3, .ref qo), (2, .ref (ad 15 0)), (1, .ref (ad 2 0)), (0, .ref b)]) hx hb kd_law_688 hl5 (by decide) rfl (fun ls6 hl6 => ?_)
  refine lv_aload_n (k := 2) hx hb kd_law_690 rfl (lv_at hl6 4 rfl) ?_
  refine kl_i (d := 0) (as := []) (mj := 197) (g := 15) (i := 0) (rest := []) k F hqn hqA (by decide) rfl klt_88 (by decide +kernel) rfl (j_thrown h2) (Nat.le_of_ble_eq_true rfl) (fun v hv => absurd hv List.not_mem_nil) hh2 rfl (Nat.zero_le _) hl6.1 hP hO hS kd_law_691 ⟨by decide, by decide⟩ ⟨by show cells + 1 ≤ 1208192; omega, by show slots + 6 ≤ 5428522; omega⟩ (fun H locs hP hO hh3 hS => ?_)
  refine lv_iload hx hb kd_law_694 (lv_at hl6 1 rfl) ?_
  refine lv_icmp_eq hx hb kd_law_696 rfl (fun _ => ?_) (fun z => absurd hr2 z)
  refine lv_iload hx hb kd_law_701 (lv_at hl6 1 rfl) ?_
  have fin : W p l e room_1 s m #[.ref b] below meth c H locs (cells + 1) (slots + 6) Q (F0 m 718 ls6 []) := by
    refine lv_goto hx hb kd_law_718 rfl ?_
    exact kk h2 f1 H locs _ _ _ ⟨hP, hO, hS, J2, hh3, by omega, by omega⟩ (lv_sub hl6 [2, 3, 4, 5, 6] rfl)
  refine lv_if_ne hx hb kd_law_703 rfl (fun _ => fin) (fun z => ?_)
  refine lv_aload_n (k := 3) hx hb kd_law_706 rfl (lv_at hl6 3 rfl) ?_
  refine lv_iconst (v := 0) hx hb kd_law_707 rfl ?_
  refine va_lald (D := (dC, dI)) (tys := mw_tys cA) (a := qo) (cA := cA 3) (n := 1) (f := f1) (i := 0) hx hb hK.1 (kW2_P hP hO) 200 3 (by rw [List.getElem?_append_right (by rw [kW2_len]; exact Nat.le_refl _), kW2_len]; rfl) rfl (fun z => by rcases z with z | z; exact absurd z (by decide); exact absurd z (by decide)) kd_law_708 ?_
  refine lv_iload hx hb kd_law_709 (lv_at hl6 0 rfl) ?_
  refine lv_i2l hx hb kd_law_711 rfl ?_
  refine W.lcmp hx hb kd_law_712 ?_
  have z0 : f1 (0 : Int32).toNatClampNeg = v2.toInt64 := hf2 z
  rw [z0, lg_self]
  exact lv_if_eq hx hb kd_law_713 rfl (fun _ => fin) (fun z => absurd rfl z)
theorem klt_128 : Cond.methodLink "LinkedCoresLaw" 128 (mw_y 353) ∈ mw_good := mw_good_of (mw_tm13 (List.mem_of_getElem? (i := 65) rfl)) rfl
theorem kx_beat (C : kCtx l dC dI ad aV cA qo p s m meth c b L xs) (St : kStt dC dI ad cA qo b s j h f H locs cells slots) (hl : lv_has ls 7 (kLv ad qo b j)) (hj : 4 * j + 4 ≤ L) (kk : ∀ (h' : mj_H) (f' : Nat → Int64) (H' : Heap) (locs' : List Loc) (cells' slots' : Nat) (ls' : Array Slot), kStt dC dI ad cA qo b s (j + 1) h' f' H' locs' cells' slots' → lv_has ls' 7 (kLv ad qo b j) → W p l e room_1 s m #[.ref b] below meth c H' locs' cells' slots' Q (F0 m 1193 ls' [])) : W p l e room_1 s m #[.ref b] below meth c H locs cells slots Q (F0 m 721 ls []) := by
  obtain ⟨k, hqn, hqA, F, hX, hbl, hca, hL, hr, hlk⟩ := C
  obtain ⟨hP, hO, hS, J, hh, hc9, hs9⟩ := St
  obtain ⟨hx, hb, hml, hown, hts, hK, hW0⟩ := id F
  have hbA : ¬ kNew s b := fun z => by have z : s.heap.size ≤ b := z; omega
  have hl : lv_has ls 7 [(4, .int (nI (4 * j))), (3, .ref qo), (2, .ref (ad 15 0)), (1, .ref (ad 2 0)), (0, .ref b)] := hl
  have hi1 : vp_in (nI (4 * j) + 1) L := kin (a := 4 * j) (k := 1) (by omega) hL
  have hi2 : vp_in (nI (4 * j) + 2) L := kin (a := 4 * j) (k := 2) (by omega) hL
  have hi3 : vp_in (nI (4 * j) + 3) L := kin (a := 4 * j) (k := 3) (by omega) hL
  refine lv_aload_n (k := 1) hx hb kd_law_721 rfl (lv_at hl 3 rfl) ?_
  refine lv_aload_n (k := 0) hx hb kd_law_722 rfl (lv_at hl 4 rfl) ?_
  refine lv_iload hx hb kd_law_723 (lv_at hl 0 rfl) ?_
  refine lv_iconst (v := 1) hx hb kd_law_725 rfl ?_
  refine lv_iadd hx hb kd_law_726 ?_
  refine va_sld hx hb hX hbl hbA hS hi1 kd_law_727 ?_
  refine lv_aload_n (k := 3) hx hb kd_law_728 rfl (lv_at hl 1 rfl) ?_
  refine kl_w (As := [.ref (ad 2 0), .int (xs (nI (4 * j) + 1).toNatClampNeg), .ref qo]) (K := 30000 * (j + 1)) (EX := [3, 1]) (y := ky_beat) (cc9 := method_13_code) (maxL := 4) (hs := khs_beat) k hqn F kcw_beat kst_beat ki_law klw_beat ⟨by decide, by decide⟩ rfl (by decide) hl.1 hP hO hS kd_law_729 ⟨by decide, by decide⟩ ⟨by show cells + 1 ≤ 1208192; omega, by show slots + 6 ≤ 5428522; omega⟩ ((j_beat J (xs (nI (4 * j) + 1).toNatClampNeg)).le (by omega)) (fun v h1 e1 => kt_beat_r k hqA hh e1) (fun x n0 h1 e1 hn => kt_beat_t k hqA hca hh e1 hn) (by decide) (fun r v2 h1 h2 f1 H locs hP hO hh1 hS e2 hr2 hf2 J2 => ?_)
  refine lv_istore (nL := 7) (lv' := [(5, .int r), (4, .int (nI (4 * j))), (3, .ref qo), (2, .ref (ad 15 0)), (1, .ref (ad 2 0)), (0, .ref b)]) hx hb kd_law_732 hl (by decide) rfl (fun ls5 hl5 => ?_)
  refine lv_aload_n (k := 2) hx hb kd_law_734 rfl (lv_at hl5 3 rfl) ?_
  refine lv_aload_n (k := 0) hx hb kd_law_735 rfl (lv_at hl5 5 rfl) ?_
  refine lv_iload hx hb kd_law_736 (lv_at hl5 1 rfl) ?_
  refine lv_iconst (v := 1) hx hb kd_law_738 rfl ?_
  refine lv_iadd hx hb kd_law_739 ?_
  refine va_sld hx hb hX hbl hbA hS hi1 kd_law_740 ?_
  refine kl_i (d := 0) (as := [vI (xs (nI (4 * j) + 1).toNatClampNeg)]) (mj := 353) (g := 15) (i := 0) (rest := []) k F hqn hqA (by decide) rfl klt_128 (by decide +kernel) rfl e2 (Nat.le_of_ble_eq_true rfl) (fun v hv => by simp at hv; subst hv; trivial) hh1 rfl (Nat.zero_le _) hl5.1 hP hO hS kd_law_741 ⟨by decide, by decide⟩ ⟨by show cells + 1 ≤ 1208192; omega, by show slots + 6 ≤ 5428522; omega⟩ (fun H locs hP hO hh2 hS => ?_)
  refine lv_istore (nL := 7) (lv' := [(6, .int v2), (5, .int r), (4, .int (nI (4 * j))), (3, .ref qo), (2, .ref (ad 15 0)), (1, .ref (ad 2 0)), (0, .ref b)]) hx hb kd_law_744 hl5 (by decide) rfl (fun ls6 hl6 => ?_)
  refine lv_aload_n (k := 2) hx hb kd_law_746 rfl (lv_at hl6 4 rfl) ?_
  refine kl_i (d := 0) (as := []) (mj := 197) (g := 15) (i := 0) (rest := []) k F hqn hqA (by decide) rfl klt_88 (by decide +kernel) rfl (j_thrown h2) (Nat.le_of_ble_eq_true rfl) (fun v hv => absurd hv List.not_mem_nil) hh2 rfl (Nat.zero_le _) hl6.1 hP hO hS kd_law_747 ⟨by decide, by decide⟩ ⟨by show cells + 1 ≤ 1208192; omega, by show slots + 6 ≤ 5428522; omega⟩ (fun H locs hP hO hh3 hS => ?_)
  refine lv_iload hx hb kd_law_750 (lv_at hl6 1 rfl) ?_
  refine lv_icmp_eq hx hb kd_law_752 rfl (fun _ => ?_) (fun z => absurd hr2 z)
  refine lv_iload hx hb kd_law_757 (lv_at hl6 1 rfl) ?_
  have fin : W p l e room_1 s m #[.ref b] below meth c H locs (cells + 1) (slots + 6) Q (F0 m 774 ls6 []) := by
    refine lv_goto hx hb kd_law_774 rfl ?_
    exact kk h2 f1 H locs _ _ _ ⟨hP, hO, hS, J2, hh3, by omega, by omega⟩ (lv_sub hl6 [2, 3, 4, 5, 6] rfl)
  refine lv_if_ne hx hb kd_law_759 rfl (fun _ => fin) (fun z => ?_)
  refine lv_aload_n (k := 3) hx hb kd_law_762 rfl (lv_at hl6 3 rfl) ?_
  refine lv_iconst (v := 0) hx hb kd_law_763 rfl ?_
  refine va_lald (D := (dC, dI)) (tys := mw_tys cA) (a := qo) (cA := cA 3) (n := 1) (f := f1) (i := 0) hx hb hK.1 (kW2_P hP hO) 200 3 (by rw [List.getElem?_append_right (by rw [kW2_len]; exact Nat.le_refl _), kW2_len]; rfl) rfl (fun z => by rcases z with z | z; exact absurd z (by decide); exact absurd z (by decide)) kd_law_764 ?_
  refine lv_iload hx hb kd_law_765 (lv_at hl6 0 rfl) ?_
  refine lv_i2l hx hb kd_law_767 rfl ?_
  refine W.lcmp hx hb kd_law_768 ?_
  have z0 : f1 (0 : Int32).toNatClampNeg = v2.toInt64 := hf2 z
  rw [z0, lg_self]
  exact lv_if_eq hx hb kd_law_769 rfl (fun _ => fin) (fun z => absurd rfl z)
theorem klt_131 : Cond.methodLink "LinkedCoresLaw" 131 (mw_y 354) ∈ mw_good := mw_good_of (mw_tm13 (List.mem_of_getElem? (i := 77) rfl)) rfl
theorem kx_rounds (C : kCtx l dC dI ad aV cA qo p s m meth c b L xs) (St : kStt dC dI ad cA qo b s j h f H locs cells slots) (hl : lv_has ls 7 (kLv ad qo b j)) (hj : 4 * j + 4 ≤ L) (kk : ∀ (h' : mj_H) (f' : Nat → Int64) (H' : Heap) (locs' : List Loc) (cells' slots' : Nat) (ls' : Array Slot), kStt dC dI ad cA qo b s (j + 1) h' f' H' locs' cells' slots' → lv_has ls' 7 (kLv ad qo b j) → W p l e room_1 s m #[.ref b] below meth c H' locs' cells' slots' Q (F0 m 1193 ls' [])) : W p l e room_1 s m #[.ref b] below meth c H locs cells slots Q (F0 m 777 ls []) := by
  obtain ⟨k, hqn, hqA, F, hX, hbl, hca, hL, hr, hlk⟩ := C
  obtain ⟨hP, hO, hS, J, hh, hc9, hs9⟩ := St
  obtain ⟨hx, hb, hml, hown, hts, hK, hW0⟩ := id F
  have hbA : ¬ kNew s b := fun z => by have z : s.heap.size ≤ b := z; omega
  have hl : lv_has ls 7 [(4, .int (nI (4 * j))), (3, .ref qo), (2, .ref (ad 15 0)), (1, .ref (ad 2 0)), (0, .ref b)] := hl
  have hi1 : vp_in (nI (4 * j) + 1) L := kin (a := 4 * j) (k := 1) (by omega) hL
  have hi2 : vp_in (nI (4 * j) + 2) L := kin (a := 4 * j) (k := 2) (by omega) hL
  have hi3 : vp_in (nI (4 * j) + 3) L := kin (a := 4 * j) (k := 3) (by omega) hL
  refine lv_aload_n (k := 1) hx hb kd_law_777 rfl (lv_at hl 3 rfl) ?_
  refine lv_aload_n (k := 0) hx hb kd_law_778 rfl (lv_at hl 4 rfl) ?_
  refine lv_iload hx hb kd_law_779 (lv_at hl 0 rfl) ?_
  refine lv_iconst (v := 1) hx hb kd_law_781 rfl ?_
  refine lv_iadd hx hb kd_law_782 ?_
  refine va_sld hx hb hX hbl hbA hS hi1 kd_law_783 ?_
  refine lv_aload_n (k := 3) hx hb kd_law_784 rfl (lv_at hl 1 rfl) ?_
  refine kl_w (As := [.ref (ad 2 0), .int (xs (nI (4 * j) + 1).toNatClampNeg), .ref qo]) (K := 30000 * (j + 1)) (EX := [3, 1]) (y := ky_rounds) (cc9 := method_14_code) (maxL := 4) (hs := khs_rounds) k hqn F kcw_rounds kst_rounds ki_law klw_rounds ⟨by decide, by decide⟩ rfl (by decide) hl.1 hP hO hS kd_law_785 ⟨by decide, by decide⟩ ⟨by show cells + 1 ≤ 1208192; omega, by show slots + 6 ≤ 5428522; omega⟩ ((j_rounds J (by omega) (xs (nI (4 * j) + 1).toNatClampNeg)).le (by omega)) (fun v h1 e1 => kt_rounds_r k hqA hh e1) (fun x n0 h1 e1 hn => kt_rounds_t k hqA hca hh e1 hn) (by decide) (fun r v2 h1 h2 f1 H locs hP hO hh1 hS e2 hr2 hf2 J2 => ?_)
  refine lv_istore (nL := 7) (lv' := [(5, .int r), (4, .int (nI (4 * j))), (3, .ref qo), (2, .ref (ad 15 0)), (1, .ref (ad 2 0)), (0, .ref b)]) hx hb kd_law_788 hl (by decide) rfl (fun ls5 hl5 => ?_)
  refine lv_aload_n (k := 2) hx hb kd_law_790 rfl (lv_at hl5 3 rfl) ?_
  refine lv_aload_n (k := 0) hx hb kd_law_791 rfl (lv_at hl5 5 rfl) ?_
  refine lv_iload hx hb kd_law_792 (lv_at hl5 1 rfl) ?_
  refine lv_iconst (v := 1) hx hb kd_law_794 rfl ?_
  refine lv_iadd hx hb kd_law_795 ?_
  refine va_sld hx hb hX hbl hbA hS hi1 kd_law_796 ?_
  refine kl_i (d := 0) (as := [vI (xs (nI (4 * j) + 1).toNatClampNeg)]) (mj := 354) (g := 15) (i := 0) (rest := []) k F hqn hqA (by decide) rfl klt_131 (by decide +kernel) rfl e2 (Nat.le_of_ble_eq_true rfl) (fun v hv => by simp at hv; subst hv; trivial) hh1 rfl (Nat.zero_le _) hl5.1 hP hO hS kd_law_797 ⟨by decide, by decide⟩ ⟨by show cells + 1 ≤ 1208192; omega, by show slots + 6 ≤ 5428522; omega⟩ (fun H locs hP hO hh2 hS => ?_)
  refine lv_istore (nL := 7) (lv' := [(6, .int v2), (5, .int r), (4, .int (nI (4 * j))), (3, .ref qo), (2, .ref (ad 15 0)), (1, .ref (ad 2 0)), (0, .ref b)]) hx hb kd_law_800 hl5 (by decide) rfl (fun ls6 hl6 => ?_)
  refine lv_aload_n (k := 2) hx hb kd_law_802 rfl (lv_at hl6 4 rfl) ?_
  refine kl_i (d := 0) (as := []) (mj := 197) (g := 15) (i := 0) (rest := []) k F hqn hqA (by decide) rfl klt_88 (by decide +kernel) rfl (j_thrown h2) (Nat.le_of_ble_eq_true rfl) (fun v hv => absurd hv List.not_mem_nil) hh2 rfl (Nat.zero_le _) hl6.1 hP hO hS kd_law_803 ⟨by decide, by decide⟩ ⟨by show cells + 1 ≤ 1208192; omega, by show slots + 6 ≤ 5428522; omega⟩ (fun H locs hP hO hh3 hS => ?_)
  refine lv_iload hx hb kd_law_806 (lv_at hl6 1 rfl) ?_
  refine lv_icmp_eq hx hb kd_law_808 rfl (fun _ => ?_) (fun z => absurd hr2 z)
  refine lv_iload hx hb kd_law_813 (lv_at hl6 1 rfl) ?_
  have fin : W p l e room_1 s m #[.ref b] below meth c H locs (cells + 1) (slots + 6) Q (F0 m 830 ls6 []) := by
    refine lv_goto hx hb kd_law_830 rfl ?_
    exact kk h2 f1 H locs _ _ _ ⟨hP, hO, hS, J2, hh3, by omega, by omega⟩ (lv_sub hl6 [2, 3, 4, 5, 6] rfl)
  refine lv_if_ne hx hb kd_law_815 rfl (fun _ => fin) (fun z => ?_)
  refine lv_aload_n (k := 3) hx hb kd_law_818 rfl (lv_at hl6 3 rfl) ?_
  refine lv_iconst (v := 0) hx hb kd_law_819 rfl ?_
  refine va_lald (D := (dC, dI)) (tys := mw_tys cA) (a := qo) (cA := cA 3) (n := 1) (f := f1) (i := 0) hx hb hK.1 (kW2_P hP hO) 200 3 (by rw [List.getElem?_append_right (by rw [kW2_len]; exact Nat.le_refl _), kW2_len]; rfl) rfl (fun z => by rcases z with z | z; exact absurd z (by decide); exact absurd z (by decide)) kd_law_820 ?_
  refine lv_iload hx hb kd_law_821 (lv_at hl6 0 rfl) ?_
  refine lv_i2l hx hb kd_law_823 rfl ?_
  refine W.lcmp hx hb kd_law_824 ?_
  have z0 : f1 (0 : Int32).toNatClampNeg = v2.toInt64 := hf2 z
  rw [z0, lg_self]
  exact lv_if_eq hx hb kd_law_825 rfl (fun _ => fin) (fun z => absurd rfl z)
theorem klt_135 : Cond.methodLink "LinkedCoresLaw" 135 (mw_y 355) ∈ mw_good := mw_good_of (mw_tm13 (List.mem_of_getElem? (i := 85) rfl)) rfl
theorem kx_outcome (C : kCtx l dC dI ad aV cA qo p s m meth c b L xs) (St : kStt dC dI ad cA qo b s j h f H locs cells slots) (hl : lv_has ls 7 (kLv ad qo b j)) (hj : 4 * j + 4 ≤ L) (kk : ∀ (h' : mj_H) (f' : Nat → Int64) (H' : Heap) (locs' : List Loc) (cells' slots' : Nat) (ls' : Array Slot), kStt dC dI ad cA qo b s (j + 1) h' f' H' locs' cells' slots' → lv_has ls' 7 (kLv ad qo b j) → W p l e room_1 s m #[.ref b] below meth c H' locs' cells' slots' Q (F0 m 1193 ls' [])) : W p l e room_1 s m #[.ref b] below meth c H locs cells slots Q (F0 m 833 ls []) := by
  obtain ⟨k, hqn, hqA, F, hX, hbl, hca, hL, hr, hlk⟩ := C
  obtain ⟨hP, hO, hS, J, hh, hc9, hs9⟩ := St
  obtain ⟨hx, hb, hml, hown, hts, hK, hW0⟩ := id F
  have hbA : ¬ kNew s b := fun z => by have z : s.heap.size ≤ b := z; omega
  have hl : lv_has ls 7 [(4, .int (nI (4 * j))), (3, .ref qo), (2, .ref (ad 15 0)), (1, .ref (ad 2 0)), (0, .ref b)] := hl
  have hi1 : vp_in (nI (4 * j) + 1) L := kin (a := 4 * j) (k := 1) (by omega) hL
  have hi2 : vp_in (nI (4 * j) + 2) L := kin (a := 4 * j) (k := 2) (by omega) hL
  have hi3 : vp_in (nI (4 * j) + 3) L := kin (a := 4 * j) (k := 3) (by omega) hL
  refine lv_aload_n (k := 1) hx hb kd_law_833 rfl (lv_at hl 3 rfl) ?_
  refine lv_aload_n (k := 3) hx hb kd_law_834 rfl (lv_at hl 1 rfl) ?_
  refine kl_w (As := [.ref (ad 2 0), .ref qo]) (K := 30000 * (j + 1)) (EX := [3]) (y := ky_outcome) (cc9 := method_15_code) (maxL := 3) (hs := khs_outcome) k hqn F kcw_outcome kst_outcome ki_law klw_outcome ⟨by decide, by decide⟩ rfl (by decide) hl.1 hP hO hS kd_law_835 ⟨by decide, by decide⟩ ⟨by show cells + 1 ≤ 1208192; omega, by show slots + 6 ≤ 5428522; omega⟩ ((j_outcome J (by omega) ).le (by omega)) (fun v h1 e1 => kt_outcome_r k hqA hh e1) (fun x n0 h1 e1 hn => kt_outcome_t k hqA hca hh e1 hn) (by decide) (fun r v2 h1 h2 f1 H locs hP hO hh1 hS e2 hr2 hf2 J2 => ?_)
  refine lv_istore (nL := 7) (lv' := [(5, .int r), (4, .int (nI (4 * j))), (3, .ref qo), (2, .ref (ad 15 0)), (1, .ref (ad 2 0)), (0, .ref b)]) hx hb kd_law_838 hl (by decide) rfl (fun ls5 hl5 => ?_)
  refine lv_aload_n (k := 2) hx hb kd_law_840 rfl (lv_at hl5 3 rfl) ?_
  refine kl_i (d := 0) (as := []) (mj := 355) (g := 15) (i := 0) (rest := []) k F hqn hqA (by decide) rfl klt_135 (by decide +kernel) rfl e2 (Nat.le_of_ble_eq_true rfl) (fun v hv => absurd hv List.not_mem_nil) hh1 rfl (Nat.zero_le _) hl5.1 hP hO hS kd_law_841 ⟨by decide, by decide⟩ ⟨by show cells + 1 ≤ 1208192; omega, by show slots + 6 ≤ 5428522; omega⟩ (fun H locs hP hO hh2 hS => ?_)
  refine lv_istore (nL := 7) (lv' := [(6, .int v2), (5, .int r), (4, .int (nI (4 * j))), (3, .ref qo), (2, .ref (ad 15 0)), (1, .ref (ad 2 0)), (0, .ref b)]) hx hb kd_law_844 hl5 (by decide) rfl (fun ls6 hl6 => ?_)
  refine lv_aload_n (k := 2) hx hb kd_law_846 rfl (lv_at hl6 4 rfl) ?_
  refine kl_i (d := 0) (as := []) (mj := 197) (g := 15) (i := 0) (rest := []) k F hqn hqA (by decide) rfl klt_88 (by decide +kernel) rfl (j_thrown h2) (Nat.le_of_ble_eq_true rfl) (fun v hv => absurd hv List.not_mem_nil) hh2 rfl (Nat.zero_le _) hl6.1 hP hO hS kd_law_847 ⟨by decide, by decide⟩ ⟨by show cells + 1 ≤ 1208192; omega, by show slots + 6 ≤ 5428522; omega⟩ (fun H locs hP hO hh3 hS => ?_)
  refine lv_iload hx hb kd_law_850 (lv_at hl6 1 rfl) ?_
  refine lv_icmp_eq hx hb kd_law_852 rfl (fun _ => ?_) (fun z => absurd hr2 z)
  refine lv_iload hx hb kd_law_857 (lv_at hl6 1 rfl) ?_
  have fin : W p l e room_1 s m #[.ref b] below meth c H locs (cells + 1) (slots + 6) Q (F0 m 874 ls6 []) := by
    refine lv_goto hx hb kd_law_874 rfl ?_
    exact kk h2 f1 H locs _ _ _ ⟨hP, hO, hS, J2, hh3, by omega, by omega⟩ (lv_sub hl6 [2, 3, 4, 5, 6] rfl)
  refine lv_if_ne hx hb kd_law_859 rfl (fun _ => fin) (fun z => ?_)
  refine lv_aload_n (k := 3) hx hb kd_law_862 rfl (lv_at hl6 3 rfl) ?_
  refine lv_iconst (v := 0) hx hb kd_law_863 rfl ?_
  refine va_lald (D := (dC, dI)) (tys := mw_tys cA) (a := qo) (cA := cA 3) (n := 1) (f := f1) (i := 0) hx hb hK.1 (kW2_P hP hO) 200 3 (by rw [List.getElem?_append_right (by rw [kW2_len]; exact Nat.le_refl _), kW2_len]; rfl) rfl (fun z => by rcases z with z | z; exact absurd z (by decide); exact absurd z (by decide)) kd_law_864 ?_
  refine lv_iload hx hb kd_law_865 (lv_at hl6 0 rfl) ?_
  refine lv_i2l hx hb kd_law_867 rfl ?_
  refine W.lcmp hx hb kd_law_868 ?_
  have z0 : f1 (0 : Int32).toNatClampNeg = v2.toInt64 := hf2 z
  rw [z0, lg_self]
  exact lv_if_eq hx hb kd_law_869 rfl (fun _ => fin) (fun z => absurd rfl z)
theorem klt_138 : Cond.methodLink "LinkedCoresLaw" 138 (mw_y 361) ∈ mw_good := mw_good_of (mw_tm13 (List.mem_of_getElem? (i := 109) rfl)) rfl
theorem kx_core (C : kCtx l dC dI ad aV cA qo p s m meth c b L xs) (St : kStt dC dI ad cA qo b s j h f H locs cells slots) (hl : lv_has ls 7 (kLv ad qo b j)) (hj : 4 * j + 4 ≤ L) (kk : ∀ (h' : mj_H) (f' : Nat → Int64) (H' : Heap) (locs' : List Loc) (cells' slots' : Nat) (ls' : Array Slot), kStt dC dI ad cA qo b s (j + 1) h' f' H' locs' cells' slots' → lv_has ls' 7 (kLv ad qo b j) → W p l e room_1 s m #[.ref b] below meth c H' locs' cells' slots' Q (F0 m 1193 ls' [])) : W p l e room_1 s m #[.ref b] below meth c H locs cells slots Q (F0 m 877 ls []) := by
  obtain ⟨k, hqn, hqA, F, hX, hbl, hca, hL, hr, hlk⟩ := C
  obtain ⟨hP, hO, hS, J, hh, hc9, hs9⟩ := St
  obtain ⟨hx, hb, hml, hown, hts, hK, hW0⟩ := id F
  have hbA : ¬ kNew s b := fun z => by have z : s.heap.size ≤ b := z; omega
  have hl : lv_has ls 7 [(4, .int (nI (4 * j))), (3, .ref qo), (2, .ref (ad 15 0)), (1, .ref (ad 2 0)), (0, .ref b)] := hl
  have hi1 : vp_in (nI (4 * j) + 1) L := kin (a := 4 * j) (k := 1) (by omega) hL
  have hi2 : vp_in (nI (4 * j) + 2) L := kin (a := 4 * j) (k := 2) (by omega) hL
  have hi3 : vp_in (nI (4 * j) + 3) L := kin (a := 4 * j) (k := 3) (by omega) hL
  refine lv_aload_n (k := 1) hx hb kd_law_877 rfl (lv_at hl 3 rfl) ?_
  refine lv_aload_n (k := 0) hx hb kd_law_878 rfl (lv_at hl 4 rfl) ?_
  refine lv_iload hx hb kd_law_879 (lv_at hl 0 rfl) ?_
  refine lv_iconst (v := 1) hx hb kd_law_881 rfl ?_
  refine lv_iadd hx hb kd_law_882 ?_
  refine va_sld hx hb hX hbl hbA hS hi1 kd_law_883 ?_
  refine lv_aload_n (k := 0) hx hb kd_law_884 rfl (lv_at hl 4 rfl) ?_
  refine lv_iload hx hb kd_law_885 (lv_at hl 0 rfl) ?_
  refine lv_iconst (v := 2) hx hb kd_law_887 rfl ?_
  refine lv_iadd hx hb kd_law_888 ?_
  refine va_sld hx hb hX hbl hbA hS hi2 kd_law_889 ?_
  refine lv_aload_n (k := 3) hx hb kd_law_890 rfl (lv_at hl 1 rfl) ?_
  refine kl_w (As := [.ref (ad 2 0), .int (xs (nI (4 * j) + 1).toNatClampNeg), .int (xs (nI (4 * j) + 2).toNatClampNeg), .ref qo]) (K := 30000 * (j + 1)) (EX := [3, 4, 1]) (y := ky_core) (cc9 := method_16_code) (maxL := 5) (hs := khs_core) k hqn F kcw_core kst_core ki_law klw_core ⟨by decide, by decide⟩ rfl (by decide) hl.1 hP hO hS kd_law_891 ⟨by decide, by decide⟩ ⟨by show cells + 1 ≤ 1208192; omega, by show slots + 6 ≤ 5428522; omega⟩ ((j_core J (by omega) (xs (nI (4 * j) + 1).toNatClampNeg) (xs (nI (4 * j) + 2).toNatClampNeg)).le (by omega)) (fun v h1 e1 => kt_core_r k hqA hh e1) (fun x n0 h1 e1 hn => kt_core_t k hqA hca hh e1 hn) (by decide) (fun r v2 h1 h2 f1 H locs hP hO hh1 hS e2 hr2 hf2 J2 => ?_)
  refine lv_istore (nL := 7) (lv' := [(5, .int r), (4, .int (nI (4 * j))), (3, .ref qo), (2, .ref (ad 15 0)), (1, .ref (ad 2 0)), (0, .ref b)]) hx hb kd_law_894 hl (by decide) rfl (fun ls5 hl5 => ?_)
  refine lv_aload_n (k := 2) hx hb kd_law_896 rfl (lv_at hl5 3 rfl) ?_
  refine lv_aload_n (k := 0) hx hb kd_law_897 rfl (lv_at hl5 5 rfl) ?_
  refine lv_iload hx hb kd_law_898 (lv_at hl5 1 rfl) ?_
  refine lv_iconst (v := 1) hx hb kd_law_900 rfl ?_
  refine lv_iadd hx hb kd_law_901 ?_
  refine va_sld hx hb hX hbl hbA hS hi1 kd_law_902 ?_
  refine lv_aload_n (k := 0) hx hb kd_law_903 rfl (lv_at hl5 5 rfl) ?_
  refine lv_iload hx hb kd_law_904 (lv_at hl5 1 rfl) ?_
  refine lv_iconst (v := 2) hx hb kd_law_906 rfl ?_
  refine lv_iadd hx hb kd_law_907 ?_
  refine va_sld hx hb hX hbl hbA hS hi2 kd_law_908 ?_
  refine kl_i (d := 0) (as := [vI (xs (nI (4 * j) + 1).toNatClampNeg), vI (xs (nI (4 * j) + 2).toNatClampNeg)]) (mj := 361) (g := 15) (i := 0) (rest := []) k F hqn hqA (by decide) rfl klt_138 (by decide +kernel) rfl e2 (Nat.le_of_ble_eq_true rfl) (fun v hv => by simp at hv; rcases hv with rfl | rfl <;> trivial) hh1 rfl (Nat.zero_le _) hl5.1 hP hO hS kd_law_909 ⟨by decide, by decide⟩ ⟨by show cells + 1 ≤ 1208192; omega, by show slots + 6 ≤ 5428522; omega⟩ (fun H locs hP hO hh2 hS => ?_)
  refine lv_istore (nL := 7) (lv' := [(6, .int v2), (5, .int r), (4, .int (nI (4 * j))), (3, .ref qo), (2, .ref (ad 15 0)), (1, .ref (ad 2 0)), (0, .ref b)]) hx hb kd_law_912 hl5 (by decide) rfl (fun ls6 hl6 => ?_)
  refine lv_aload_n (k := 2) hx hb kd_law_914 rfl (lv_at hl6 4 rfl) ?_
  refine kl_i (d := 0) (as := []) (mj := 197) (g := 15) (i := 0) (rest := []) k F hqn hqA (by decide) rfl klt_88 (by decide +kernel) rfl (j_thrown h2) (Nat.le_of_ble_eq_true rfl) (fun v hv => absurd hv List.not_mem_nil) hh2 rfl (Nat.zero_le _) hl6.1 hP hO hS kd_law_915 ⟨by decide, by decide⟩ ⟨by show cells + 1 ≤ 1208192; omega, by show slots + 6 ≤ 5428522; omega⟩ (fun H locs hP hO hh3 hS => ?_)
  refine lv_iload hx hb kd_law_918 (lv_at hl6 1 rfl) ?_
  refine lv_icmp_eq hx hb kd_law_920 rfl (fun _ => ?_) (fun z => absurd hr2 z)
  refine lv_iload hx hb kd_law_925 (lv_at hl6 1 rfl) ?_
  have fin : W p l e room_1 s m #[.ref b] below meth c H locs (cells + 1) (slots + 6) Q (F0 m 942 ls6 []) := by
    refine lv_goto hx hb kd_law_942 rfl ?_
    exact kk h2 f1 H locs _ _ _ ⟨hP, hO, hS, J2, hh3, by omega, by omega⟩ (lv_sub hl6 [2, 3, 4, 5, 6] rfl)
  refine lv_if_ne hx hb kd_law_927 rfl (fun _ => fin) (fun z => ?_)
  refine lv_aload_n (k := 3) hx hb kd_law_930 rfl (lv_at hl6 3 rfl) ?_
  refine lv_iconst (v := 0) hx hb kd_law_931 rfl ?_
  refine va_lald (D := (dC, dI)) (tys := mw_tys cA) (a := qo) (cA := cA 3) (n := 1) (f := f1) (i := 0) hx hb hK.1 (kW2_P hP hO) 200 3 (by rw [List.getElem?_append_right (by rw [kW2_len]; exact Nat.le_refl _), kW2_len]; rfl) rfl (fun z => by rcases z with z | z; exact absurd z (by decide); exact absurd z (by decide)) kd_law_932 ?_
  refine lv_iload hx hb kd_law_933 (lv_at hl6 0 rfl) ?_
  refine lv_i2l hx hb kd_law_935 rfl ?_
  refine W.lcmp hx hb kd_law_936 ?_
  have z0 : f1 (0 : Int32).toNatClampNeg = v2.toInt64 := hf2 z
  rw [z0, lg_self]
  exact lv_if_eq hx hb kd_law_937 rfl (fun _ => fin) (fun z => absurd rfl z)
theorem klt_141 : Cond.methodLink "LinkedCoresLaw" 141 (mw_y 362) ∈ mw_good := mw_good_of (mw_tm13 (List.mem_of_getElem? (i := 113) rfl)) rfl
theorem kx_ready (C : kCtx l dC dI ad aV cA qo p s m meth c b L xs) (St : kStt dC dI ad cA qo b s j h f H locs cells slots) (hl : lv_has ls 7 (kLv ad qo b j)) (hj : 4 * j + 4 ≤ L) (kk : ∀ (h' : mj_H) (f' : Nat → Int64) (H' : Heap) (locs' : List Loc) (cells' slots' : Nat) (ls' : Array Slot), kStt dC dI ad cA qo b s (j + 1) h' f' H' locs' cells' slots' → lv_has ls' 7 (kLv ad qo b j) → W p l e room_1 s m #[.ref b] below meth c H' locs' cells' slots' Q (F0 m 1193 ls' [])) : W p l e room_1 s m #[.ref b] below meth c H locs cells slots Q (F0 m 945 ls []) := by
  obtain ⟨k, hqn, hqA, F, hX, hbl, hca, hL, hr, hlk⟩ := C
  obtain ⟨hP, hO, hS, J, hh, hc9, hs9⟩ := St
  obtain ⟨hx, hb, hml, hown, hts, hK, hW0⟩ := id F
  have hbA : ¬ kNew s b := fun z => by have z : s.heap.size ≤ b := z; omega
  have hl : lv_has ls 7 [(4, .int (nI (4 * j))), (3, .ref qo), (2, .ref (ad 15 0)), (1, .ref (ad 2 0)), (0, .ref b)] := hl
  have hi1 : vp_in (nI (4 * j) + 1) L := kin (a := 4 * j) (k := 1) (by omega) hL
  have hi2 : vp_in (nI (4 * j) + 2) L := kin (a := 4 * j) (k := 2) (by omega) hL
  have hi3 : vp_in (nI (4 * j) + 3) L := kin (a := 4 * j) (k := 3) (by omega) hL
  refine lv_aload_n (k := 1) hx hb kd_law_945 rfl (lv_at hl 3 rfl) ?_
  refine lv_aload_n (k := 0) hx hb kd_law_946 rfl (lv_at hl 4 rfl) ?_
  refine lv_iload hx hb kd_law_947 (lv_at hl 0 rfl) ?_
  refine lv_iconst (v := 1) hx hb kd_law_949 rfl ?_
  refine lv_iadd hx hb kd_law_950 ?_
  refine va_sld hx hb hX hbl hbA hS hi1 kd_law_951 ?_
  refine lv_aload_n (k := 0) hx hb kd_law_952 rfl (lv_at hl 4 rfl) ?_
  refine lv_iload hx hb kd_law_953 (lv_at hl 0 rfl) ?_
  refine lv_iconst (v := 2) hx hb kd_law_955 rfl ?_
  refine lv_iadd hx hb kd_law_956 ?_
  refine va_sld hx hb hX hbl hbA hS hi2 kd_law_957 ?_
  refine lv_aload_n (k := 3) hx hb kd_law_958 rfl (lv_at hl 1 rfl) ?_
  refine kl_w (As := [.ref (ad 2 0), .int (xs (nI (4 * j) + 1).toNatClampNeg), .int (xs (nI (4 * j) + 2).toNatClampNeg), .ref qo]) (K := 30000 * (j + 1)) (EX := [3, 4, 2]) (y := ky_ready) (cc9 := method_17_code) (maxL := 5) (hs := khs_ready) k hqn F kcw_ready kst_ready ki_law klw_ready ⟨by decide, by decide⟩ rfl (by decide) hl.1 hP hO hS kd_law_959 ⟨by decide, by decide⟩ ⟨by show cells + 1 ≤ 1208192; omega, by show slots + 6 ≤ 5428522; omega⟩ ((j_ready J (by omega) (xs (nI (4 * j) + 1).toNatClampNeg) (xs (nI (4 * j) + 2).toNatClampNeg)).le (by omega)) (fun v h1 e1 => kt_ready_r k hqA hh e1) (fun x n0 h1 e1 hn => kt_ready_t k hqA hca hh e1 hn) (by decide) (fun r v2 h1 h2 f1 H locs hP hO hh1 hS e2 hr2 hf2 J2 => ?_)
  refine lv_istore (nL := 7) (lv' := [(5, .int r), (4, .int (nI (4 * j))), (3, .ref qo), (2, .ref (ad 15 0)), (1, .ref (ad 2 0)), (0, .ref b)]) hx hb kd_law_962 hl (by decide) rfl (fun ls5 hl5 => ?_)
  refine lv_aload_n (k := 2) hx hb kd_law_964 rfl (lv_at hl5 3 rfl) ?_
  refine lv_aload_n (k := 0) hx hb kd_law_965 rfl (lv_at hl5 5 rfl) ?_
  refine lv_iload hx hb kd_law_966 (lv_at hl5 1 rfl) ?_
  refine lv_iconst (v := 1) hx hb kd_law_968 rfl ?_
  refine lv_iadd hx hb kd_law_969 ?_
  refine va_sld hx hb hX hbl hbA hS hi1 kd_law_970 ?_
  refine lv_aload_n (k := 0) hx hb kd_law_971 rfl (lv_at hl5 5 rfl) ?_
  refine lv_iload hx hb kd_law_972 (lv_at hl5 1 rfl) ?_
  refine lv_iconst (v := 2) hx hb kd_law_974 rfl ?_
  refine lv_iadd hx hb kd_law_975 ?_
  refine va_sld hx hb hX hbl hbA hS hi2 kd_law_976 ?_
  refine kl_i (d := 0) (as := [vI (xs (nI (4 * j) + 1).toNatClampNeg), vI (xs (nI (4 * j) + 2).toNatClampNeg)]) (mj := 362) (g := 15) (i := 0) (rest := []) k F hqn hqA (by decide) rfl klt_141 (by decide +kernel) rfl e2 (Nat.le_of_ble_eq_true rfl) (fun v hv => by simp at hv; rcases hv with rfl | rfl <;> trivial) hh1 rfl (Nat.zero_le _) hl5.1 hP hO hS kd_law_977 ⟨by decide, by decide⟩ ⟨by show cells + 1 ≤ 1208192; omega, by show slots + 6 ≤ 5428522; omega⟩ (fun H locs hP hO hh2 hS => ?_)
  refine lv_istore (nL := 7) (lv' := [(6, .int v2), (5, .int r), (4, .int (nI (4 * j))), (3, .ref qo), (2, .ref (ad 15 0)), (1, .ref (ad 2 0)), (0, .ref b)]) hx hb kd_law_980 hl5 (by decide) rfl (fun ls6 hl6 => ?_)
  refine lv_aload_n (k := 2) hx hb kd_law_982 rfl (lv_at hl6 4 rfl) ?_
  refine kl_i (d := 0) (as := []) (mj := 197) (g := 15) (i := 0) (rest := []) k F hqn hqA (by decide) rfl klt_88 (by decide +kernel) rfl (j_thrown h2) (Nat.le_of_ble_eq_true rfl) (fun v hv => absurd hv List.not_mem_nil) hh2 rfl (Nat.zero_le _) hl6.1 hP hO hS kd_law_983 ⟨by decide, by decide⟩ ⟨by show cells + 1 ≤ 1208192; omega, by show slots + 6 ≤ 5428522; omega⟩ (fun H locs hP hO hh3 hS => ?_)
  refine lv_iload hx hb kd_law_986 (lv_at hl6 1 rfl) ?_
  refine lv_icmp_eq hx hb kd_law_988 rfl (fun _ => ?_) (fun z => absurd hr2 z)
  refine lv_iload hx hb kd_law_993 (lv_at hl6 1 rfl) ?_
  have fin : W p l e room_1 s m #[.ref b] below meth c H locs (cells + 1) (slots + 6) Q (F0 m 1010 ls6 []) := by
    refine lv_goto hx hb kd_law_1010 rfl ?_
    exact kk h2 f1 H locs _ _ _ ⟨hP, hO, hS, J2, hh3, by omega, by omega⟩ (lv_sub hl6 [2, 3, 4, 5, 6] rfl)
  refine lv_if_ne hx hb kd_law_995 rfl (fun _ => fin) (fun z => ?_)
  refine lv_aload_n (k := 3) hx hb kd_law_998 rfl (lv_at hl6 3 rfl) ?_
  refine lv_iconst (v := 0) hx hb kd_law_999 rfl ?_
  refine va_lald (D := (dC, dI)) (tys := mw_tys cA) (a := qo) (cA := cA 3) (n := 1) (f := f1) (i := 0) hx hb hK.1 (kW2_P hP hO) 200 3 (by rw [List.getElem?_append_right (by rw [kW2_len]; exact Nat.le_refl _), kW2_len]; rfl) rfl (fun z => by rcases z with z | z; exact absurd z (by decide); exact absurd z (by decide)) kd_law_1000 ?_
  refine lv_iload hx hb kd_law_1001 (lv_at hl6 0 rfl) ?_
  refine lv_i2l hx hb kd_law_1003 rfl ?_
  refine W.lcmp hx hb kd_law_1004 ?_
  have z0 : f1 (0 : Int32).toNatClampNeg = v2.toInt64 := hf2 z
  rw [z0, lg_self]
  exact lv_if_eq hx hb kd_law_1005 rfl (fun _ => fin) (fun z => absurd rfl z)
theorem klt_144 : Cond.methodLink "LinkedCoresLaw" 144 (mw_y 363) ∈ mw_good := mw_good_of (mw_tm13 (List.mem_of_getElem? (i := 117) rfl)) rfl
theorem kx_word (C : kCtx l dC dI ad aV cA qo p s m meth c b L xs) (St : kStt dC dI ad cA qo b s j h f H locs cells slots) (hl : lv_has ls 7 (kLv ad qo b j)) (hj : 4 * j + 4 ≤ L) (kk : ∀ (h' : mj_H) (f' : Nat → Int64) (H' : Heap) (locs' : List Loc) (cells' slots' : Nat) (ls' : Array Slot), kStt dC dI ad cA qo b s (j + 1) h' f' H' locs' cells' slots' → lv_has ls' 7 (kLv ad qo b j) → W p l e room_1 s m #[.ref b] below meth c H' locs' cells' slots' Q (F0 m 1193 ls' [])) : W p l e room_1 s m #[.ref b] below meth c H locs cells slots Q (F0 m 1013 ls []) := by
  obtain ⟨k, hqn, hqA, F, hX, hbl, hca, hL, hr, hlk⟩ := C
  obtain ⟨hP, hO, hS, J, hh, hc9, hs9⟩ := St
  obtain ⟨hx, hb, hml, hown, hts, hK, hW0⟩ := id F
  have hbA : ¬ kNew s b := fun z => by have z : s.heap.size ≤ b := z; omega
  have hl : lv_has ls 7 [(4, .int (nI (4 * j))), (3, .ref qo), (2, .ref (ad 15 0)), (1, .ref (ad 2 0)), (0, .ref b)] := hl
  have hi1 : vp_in (nI (4 * j) + 1) L := kin (a := 4 * j) (k := 1) (by omega) hL
  have hi2 : vp_in (nI (4 * j) + 2) L := kin (a := 4 * j) (k := 2) (by omega) hL
  have hi3 : vp_in (nI (4 * j) + 3) L := kin (a := 4 * j) (k := 3) (by omega) hL
  refine lv_aload_n (k := 1) hx hb kd_law_1013 rfl (lv_at hl 3 rfl) ?_
  refine lv_aload_n (k := 0) hx hb kd_law_1014 rfl (lv_at hl 4 rfl) ?_
  refine lv_iload hx hb kd_law_1015 (lv_at hl 0 rfl) ?_
  refine lv_iconst (v := 1) hx hb kd_law_1017 rfl ?_
  refine lv_iadd hx hb kd_law_1018 ?_
  refine va_sld hx hb hX hbl hbA hS hi1 kd_law_1019 ?_
  refine lv_aload_n (k := 0) hx hb kd_law_1020 rfl (lv_at hl 4 rfl) ?_
  refine lv_iload hx hb kd_law_1021 (lv_at hl 0 rfl) ?_
  refine lv_iconst (v := 2) hx hb kd_law_1023 rfl ?_
  refine lv_iadd hx hb kd_law_1024 ?_
  refine va_sld hx hb hX hbl hbA hS hi2 kd_law_1025 ?_
  refine lv_aload_n (k := 3) hx hb kd_law_1026 rfl (lv_at hl 1 rfl) ?_
  refine kl_w (As := [.ref (ad 2 0), .int (xs (nI (4 * j) + 1).toNatClampNeg), .int (xs (nI (4 * j) + 2).toNatClampNeg), .ref qo]) (K := 30000 * (j + 1)) (EX := [3, 4, 2]) (y := ky_word) (cc9 := method_18_code) (maxL := 5) (hs := khs_word) k hqn F kcw_word kst_word ki_law klw_word ⟨by decide, by decide⟩ rfl (by decide) hl.1 hP hO hS kd_law_1027 ⟨by decide, by decide⟩ ⟨by show cells + 1 ≤ 1208192; omega, by show slots + 6 ≤ 5428522; omega⟩ ((j_word J (by omega) (xs (nI (4 * j) + 1).toNatClampNeg) (xs (nI (4 * j) + 2).toNatClampNeg)).le (by omega)) (fun v h1 e1 => kt_word_r k hqA hh e1) (fun x n0 h1 e1 hn => kt_word_t k hqA hca hh e1 hn) (by decide) (fun r v2 h1 h2 f1 H locs hP hO hh1 hS e2 hr2 hf2 J2 => ?_)
  refine lv_istore (nL := 7) (lv' := [(5, .int r), (4, .int (nI (4 * j))), (3, .ref qo), (2, .ref (ad 15 0)), (1, .ref (ad 2 0)), (0, .ref b)]) hx hb kd_law_1030 hl (by decide) rfl (fun ls5 hl5 => ?_)
  refine lv_aload_n (k := 2) hx hb kd_law_1032 rfl (lv_at hl5 3 rfl) ?_
  refine lv_aload_n (k := 0) hx hb kd_law_1033 rfl (lv_at hl5 5 rfl) ?_
  refine lv_iload hx hb kd_law_1034 (lv_at hl5 1 rfl) ?_
  refine lv_iconst (v := 1) hx hb kd_law_1036 rfl ?_
  refine lv_iadd hx hb kd_law_1037 ?_
  refine va_sld hx hb hX hbl hbA hS hi1 kd_law_1038 ?_
  refine lv_aload_n (k := 0) hx hb kd_law_1039 rfl (lv_at hl5 5 rfl) ?_
  refine lv_iload hx hb kd_law_1040 (lv_at hl5 1 rfl) ?_
  refine lv_iconst (v := 2) hx hb kd_law_1042 rfl ?_
  refine lv_iadd hx hb kd_law_1043 ?_
  refine va_sld hx hb hX hbl hbA hS hi2 kd_law_1044 ?_
  refine kl_i (d := 0) (as := [vI (xs (nI (4 * j) + 1).toNatClampNeg), vI (xs (nI (4 * j) + 2).toNatClampNeg)]) (mj := 363) (g := 15) (i := 0) (rest := []) k F hqn hqA (by decide) rfl klt_144 (by decide +kernel) rfl e2 (Nat.le_of_ble_eq_true rfl) (fun v hv => by simp at hv; rcases hv with rfl | rfl <;> trivial) hh1 rfl (Nat.zero_le _) hl5.1 hP hO hS kd_law_1045 ⟨by decide, by decide⟩ ⟨by show cells + 1 ≤ 1208192; omega, by show slots + 6 ≤ 5428522; omega⟩ (fun H locs hP hO hh2 hS => ?_)
  refine lv_istore (nL := 7) (lv' := [(6, .int v2), (5, .int r), (4, .int (nI (4 * j))), (3, .ref qo), (2, .ref (ad 15 0)), (1, .ref (ad 2 0)), (0, .ref b)]) hx hb kd_law_1048 hl5 (by decide) rfl (fun ls6 hl6 => ?_)
  refine lv_aload_n (k := 2) hx hb kd_law_1050 rfl (lv_at hl6 4 rfl) ?_
  refine kl_i (d := 0) (as := []) (mj := 197) (g := 15) (i := 0) (rest := []) k F hqn hqA (by decide) rfl klt_88 (by decide +kernel) rfl (j_thrown h2) (Nat.le_of_ble_eq_true rfl) (fun v hv => absurd hv List.not_mem_nil) hh2 rfl (Nat.zero_le _) hl6.1 hP hO hS kd_law_1051 ⟨by decide, by decide⟩ ⟨by show cells + 1 ≤ 1208192; omega, by show slots + 6 ≤ 5428522; omega⟩ (fun H locs hP hO hh3 hS => ?_)
  refine lv_iload hx hb kd_law_1054 (lv_at hl6 1 rfl) ?_
  refine lv_icmp_eq hx hb kd_law_1056 rfl (fun _ => ?_) (fun z => absurd hr2 z)
  refine lv_iload hx hb kd_law_1061 (lv_at hl6 1 rfl) ?_
  have fin : W p l e room_1 s m #[.ref b] below meth c H locs (cells + 1) (slots + 6) Q (F0 m 1078 ls6 []) := by
    refine lv_goto hx hb kd_law_1078 rfl ?_
    exact kk h2 f1 H locs _ _ _ ⟨hP, hO, hS, J2, hh3, by omega, by omega⟩ (lv_sub hl6 [2, 3, 4, 5, 6] rfl)
  refine lv_if_ne hx hb kd_law_1063 rfl (fun _ => fin) (fun z => ?_)
  refine lv_aload_n (k := 3) hx hb kd_law_1066 rfl (lv_at hl6 3 rfl) ?_
  refine lv_iconst (v := 0) hx hb kd_law_1067 rfl ?_
  refine va_lald (D := (dC, dI)) (tys := mw_tys cA) (a := qo) (cA := cA 3) (n := 1) (f := f1) (i := 0) hx hb hK.1 (kW2_P hP hO) 200 3 (by rw [List.getElem?_append_right (by rw [kW2_len]; exact Nat.le_refl _), kW2_len]; rfl) rfl (fun z => by rcases z with z | z; exact absurd z (by decide); exact absurd z (by decide)) kd_law_1068 ?_
  refine lv_iload hx hb kd_law_1069 (lv_at hl6 0 rfl) ?_
  refine lv_i2l hx hb kd_law_1071 rfl ?_
  refine W.lcmp hx hb kd_law_1072 ?_
  have z0 : f1 (0 : Int32).toNatClampNeg = v2.toInt64 := hf2 z
  rw [z0, lg_self]
  exact lv_if_eq hx hb kd_law_1073 rfl (fun _ => fin) (fun z => absurd rfl z)
theorem klt_147 : Cond.methodLink "LinkedCoresLaw" 147 (mw_y 364) ∈ mw_good := mw_good_of (mw_tm13 (List.mem_of_getElem? (i := 121) rfl)) rfl
theorem kx_output (C : kCtx l dC dI ad aV cA qo p s m meth c b L xs) (St : kStt dC dI ad cA qo b s j h f H locs cells slots) (hl : lv_has ls 7 (kLv ad qo b j)) (hj : 4 * j + 4 ≤ L) (kk : ∀ (h' : mj_H) (f' : Nat → Int64) (H' : Heap) (locs' : List Loc) (cells' slots' : Nat) (ls' : Array Slot), kStt dC dI ad cA qo b s (j + 1) h' f' H' locs' cells' slots' → lv_has ls' 7 (kLv ad qo b j) → W p l e room_1 s m #[.ref b] below meth c H' locs' cells' slots' Q (F0 m 1193 ls' [])) : W p l e room_1 s m #[.ref b] below meth c H locs cells slots Q (F0 m 1081 ls []) := by
  obtain ⟨k, hqn, hqA, F, hX, hbl, hca, hL, hr, hlk⟩ := C
  obtain ⟨hP, hO, hS, J, hh, hc9, hs9⟩ := St
  obtain ⟨hx, hb, hml, hown, hts, hK, hW0⟩ := id F
  have hbA : ¬ kNew s b := fun z => by have z : s.heap.size ≤ b := z; omega
  have hl : lv_has ls 7 [(4, .int (nI (4 * j))), (3, .ref qo), (2, .ref (ad 15 0)), (1, .ref (ad 2 0)), (0, .ref b)] := hl
  have hi1 : vp_in (nI (4 * j) + 1) L := kin (a := 4 * j) (k := 1) (by omega) hL
  have hi2 : vp_in (nI (4 * j) + 2) L := kin (a := 4 * j) (k := 2) (by omega) hL
  have hi3 : vp_in (nI (4 * j) + 3) L := kin (a := 4 * j) (k := 3) (by omega) hL
  refine lv_aload_n (k := 1) hx hb kd_law_1081 rfl (lv_at hl 3 rfl) ?_
  refine lv_aload_n (k := 0) hx hb kd_law_1082 rfl (lv_at hl 4 rfl) ?_
  refine lv_iload hx hb kd_law_1083 (lv_at hl 0 rfl) ?_
  refine lv_iconst (v := 1) hx hb kd_law_1085 rfl ?_
  refine lv_iadd hx hb kd_law_1086 ?_
  refine va_sld hx hb hX hbl hbA hS hi1 kd_law_1087 ?_
  refine lv_aload_n (k := 3) hx hb kd_law_1088 rfl (lv_at hl 1 rfl) ?_
  refine kl_w (As := [.ref (ad 2 0), .int (xs (nI (4 * j) + 1).toNatClampNeg), .ref qo]) (K := 30000 * (j + 1)) (EX := [3, 2]) (y := ky_output) (cc9 := method_19_code) (maxL := 4) (hs := khs_output) k hqn F kcw_output kst_output ki_law klw_output ⟨by decide, by decide⟩ rfl (by decide) hl.1 hP hO hS kd_law_1089 ⟨by decide, by decide⟩ ⟨by show cells + 1 ≤ 1208192; omega, by show slots + 6 ≤ 5428522; omega⟩ ((j_output J (by omega) (xs (nI (4 * j) + 1).toNatClampNeg)).le (by omega)) (fun v h1 e1 => kt_output_r k hqA hh e1) (fun x n0 h1 e1 hn => kt_output_t k hqA hca hh e1 hn) (by decide) (fun r v2 h1 h2 f1 H locs hP hO hh1 hS e2 hr2 hf2 J2 => ?_)
  refine lv_istore (nL := 7) (lv' := [(5, .int r), (4, .int (nI (4 * j))), (3, .ref qo), (2, .ref (ad 15 0)), (1, .ref (ad 2 0)), (0, .ref b)]) hx hb kd_law_1092 hl (by decide) rfl (fun ls5 hl5 => ?_)
  refine lv_aload_n (k := 2) hx hb kd_law_1094 rfl (lv_at hl5 3 rfl) ?_
  refine lv_aload_n (k := 0) hx hb kd_law_1095 rfl (lv_at hl5 5 rfl) ?_
  refine lv_iload hx hb kd_law_1096 (lv_at hl5 1 rfl) ?_
  refine lv_iconst (v := 1) hx hb kd_law_1098 rfl ?_
  refine lv_iadd hx hb kd_law_1099 ?_
  refine va_sld hx hb hX hbl hbA hS hi1 kd_law_1100 ?_
  refine kl_i (d := 0) (as := [vI (xs (nI (4 * j) + 1).toNatClampNeg)]) (mj := 364) (g := 15) (i := 0) (rest := []) k F hqn hqA (by decide) rfl klt_147 (by decide +kernel) rfl e2 (Nat.le_of_ble_eq_true rfl) (fun v hv => by simp at hv; subst hv; trivial) hh1 rfl (Nat.zero_le _) hl5.1 hP hO hS kd_law_1101 ⟨by decide, by decide⟩ ⟨by show cells + 1 ≤ 1208192; omega, by show slots + 6 ≤ 5428522; omega⟩ (fun H locs hP hO hh2 hS => ?_)
  refine lv_istore (nL := 7) (lv' := [(6, .int v2), (5, .int r), (4, .int (nI (4 * j))), (3, .ref qo), (2, .ref (ad 15 0)), (1, .ref (ad 2 0)), (0, .ref b)]) hx hb kd_law_1104 hl5 (by decide) rfl (fun ls6 hl6 => ?_)
  refine lv_aload_n (k := 2) hx hb kd_law_1106 rfl (lv_at hl6 4 rfl) ?_
  refine kl_i (d := 0) (as := []) (mj := 197) (g := 15) (i := 0) (rest := []) k F hqn hqA (by decide) rfl klt_88 (by decide +kernel) rfl (j_thrown h2) (Nat.le_of_ble_eq_true rfl) (fun v hv => absurd hv List.not_mem_nil) hh2 rfl (Nat.zero_le _) hl6.1 hP hO hS kd_law_1107 ⟨by decide, by decide⟩ ⟨by show cells + 1 ≤ 1208192; omega, by show slots + 6 ≤ 5428522; omega⟩ (fun H locs hP hO hh3 hS => ?_)
  refine lv_iload hx hb kd_law_1110 (lv_at hl6 1 rfl) ?_
  refine lv_icmp_eq hx hb kd_law_1112 rfl (fun _ => ?_) (fun z => absurd hr2 z)
  refine lv_iload hx hb kd_law_1117 (lv_at hl6 1 rfl) ?_
  have fin : W p l e room_1 s m #[.ref b] below meth c H locs (cells + 1) (slots + 6) Q (F0 m 1134 ls6 []) := by
    refine lv_goto hx hb kd_law_1134 rfl ?_
    exact kk h2 f1 H locs _ _ _ ⟨hP, hO, hS, J2, hh3, by omega, by omega⟩ (lv_sub hl6 [2, 3, 4, 5, 6] rfl)
  refine lv_if_ne hx hb kd_law_1119 rfl (fun _ => fin) (fun z => ?_)
  refine lv_aload_n (k := 3) hx hb kd_law_1122 rfl (lv_at hl6 3 rfl) ?_
  refine lv_iconst (v := 0) hx hb kd_law_1123 rfl ?_
  refine va_lald (D := (dC, dI)) (tys := mw_tys cA) (a := qo) (cA := cA 3) (n := 1) (f := f1) (i := 0) hx hb hK.1 (kW2_P hP hO) 200 3 (by rw [List.getElem?_append_right (by rw [kW2_len]; exact Nat.le_refl _), kW2_len]; rfl) rfl (fun z => by rcases z with z | z; exact absurd z (by decide); exact absurd z (by decide)) kd_law_1124 ?_
  refine lv_iload hx hb kd_law_1125 (lv_at hl6 0 rfl) ?_
  refine lv_i2l hx hb kd_law_1127 rfl ?_
  refine W.lcmp hx hb kd_law_1128 ?_
  have z0 : f1 (0 : Int32).toNatClampNeg = v2.toInt64 := hf2 z
  rw [z0, lg_self]
  exact lv_if_eq hx hb kd_law_1129 rfl (fun _ => fin) (fun z => absurd rfl z)
theorem klt_150 : Cond.methodLink "LinkedCoresLaw" 150 (mw_y 365) ∈ mw_good := mw_good_of (mw_tm13 (List.mem_of_getElem? (i := 125) rfl)) rfl
theorem kx_about (C : kCtx l dC dI ad aV cA qo p s m meth c b L xs) (St : kStt dC dI ad cA qo b s j h f H locs cells slots) (hl : lv_has ls 7 (kLv ad qo b j)) (hj : 4 * j + 4 ≤ L) (kk : ∀ (h' : mj_H) (f' : Nat → Int64) (H' : Heap) (locs' : List Loc) (cells' slots' : Nat) (ls' : Array Slot), kStt dC dI ad cA qo b s (j + 1) h' f' H' locs' cells' slots' → lv_has ls' 7 (kLv ad qo b j) → W p l e room_1 s m #[.ref b] below meth c H' locs' cells' slots' Q (F0 m 1193 ls' [])) : W p l e room_1 s m #[.ref b] below meth c H locs cells slots Q (F0 m 1137 ls []) := by
  obtain ⟨k, hqn, hqA, F, hX, hbl, hca, hL, hr, hlk⟩ := C
  obtain ⟨hP, hO, hS, J, hh, hc9, hs9⟩ := St
  obtain ⟨hx, hb, hml, hown, hts, hK, hW0⟩ := id F
  have hbA : ¬ kNew s b := fun z => by have z : s.heap.size ≤ b := z; omega
  have hl : lv_has ls 7 [(4, .int (nI (4 * j))), (3, .ref qo), (2, .ref (ad 15 0)), (1, .ref (ad 2 0)), (0, .ref b)] := hl
  have hi1 : vp_in (nI (4 * j) + 1) L := kin (a := 4 * j) (k := 1) (by omega) hL
  have hi2 : vp_in (nI (4 * j) + 2) L := kin (a := 4 * j) (k := 2) (by omega) hL
  have hi3 : vp_in (nI (4 * j) + 3) L := kin (a := 4 * j) (k := 3) (by omega) hL
  refine lv_aload_n (k := 1) hx hb kd_law_1137 rfl (lv_at hl 3 rfl) ?_
  refine lv_aload_n (k := 0) hx hb kd_law_1138 rfl (lv_at hl 4 rfl) ?_
  refine lv_iload hx hb kd_law_1139 (lv_at hl 0 rfl) ?_
  refine lv_iconst (v := 1) hx hb kd_law_1141 rfl ?_
  refine lv_iadd hx hb kd_law_1142 ?_
  refine va_sld hx hb hX hbl hbA hS hi1 kd_law_1143 ?_
  refine lv_aload_n (k := 3) hx hb kd_law_1144 rfl (lv_at hl 1 rfl) ?_
  refine kl_w (As := [.ref (ad 2 0), .int (xs (nI (4 * j) + 1).toNatClampNeg), .ref qo]) (K := 30000 * (j + 1)) (EX := [3, 1]) (y := ky_about) (cc9 := method_20_code) (maxL := 4) (hs := khs_about) k hqn F kcw_about kst_about ki_law klw_about ⟨by decide, by decide⟩ rfl (by decide) hl.1 hP hO hS kd_law_1145 ⟨by decide, by decide⟩ ⟨by show cells + 1 ≤ 1208192; omega, by show slots + 6 ≤ 5428522; omega⟩ ((j_about J (by omega) (xs (nI (4 * j) + 1).toNatClampNeg)).le (by omega)) (fun v h1 e1 => kt_about_r k hqA hh e1) (fun x n0 h1 e1 hn => kt_about_t k hqA hca hh e1 hn) (by decide) (fun r v2 h1 h2 f1 H locs hP hO hh1 hS e2 hr2 hf2 J2 => ?_)
  refine lv_istore (nL := 7) (lv' := [(5, .int r), (4, .int (nI (4 * j))), (3, .ref qo), (2, .ref (ad 15 0)), (1, .ref (ad 2 0)), (0, .ref b)]) hx hb kd_law_1148 hl (by decide) rfl (fun ls5 hl5 => ?_)
  refine lv_aload_n (k := 2) hx hb kd_law_1150 rfl (lv_at hl5 3 rfl) ?_
  refine lv_aload_n (k := 0) hx hb kd_law_1151 rfl (lv_at hl5 5 rfl) ?_
  refine lv_iload hx hb kd_law_1152 (lv_at hl5 1 rfl) ?_
  refine lv_iconst (v := 1) hx hb kd_law_1154 rfl ?_
  refine lv_iadd hx hb kd_law_1155 ?_
  refine va_sld hx hb hX hbl hbA hS hi1 kd_law_1156 ?_
  refine kl_i (d := 0) (as := [vI (xs (nI (4 * j) + 1).toNatClampNeg)]) (mj := 365) (g := 15) (i := 0) (rest := []) k F hqn hqA (by decide) rfl klt_150 (by decide +kernel) rfl e2 (Nat.le_of_ble_eq_true rfl) (fun v hv => by simp at hv; subst hv; trivial) hh1 rfl (Nat.zero_le _) hl5.1 hP hO hS kd_law_1157 ⟨by decide, by decide⟩ ⟨by show cells + 1 ≤ 1208192; omega, by show slots + 6 ≤ 5428522; omega⟩ (fun H locs hP hO hh2 hS => ?_)
  refine lv_istore (nL := 7) (lv' := [(6, .int v2), (5, .int r), (4, .int (nI (4 * j))), (3, .ref qo), (2, .ref (ad 15 0)), (1, .ref (ad 2 0)), (0, .ref b)]) hx hb kd_law_1160 hl5 (by decide) rfl (fun ls6 hl6 => ?_)
  refine lv_aload_n (k := 2) hx hb kd_law_1162 rfl (lv_at hl6 4 rfl) ?_
  refine kl_i (d := 0) (as := []) (mj := 197) (g := 15) (i := 0) (rest := []) k F hqn hqA (by decide) rfl klt_88 (by decide +kernel) rfl (j_thrown h2) (Nat.le_of_ble_eq_true rfl) (fun v hv => absurd hv List.not_mem_nil) hh2 rfl (Nat.zero_le _) hl6.1 hP hO hS kd_law_1163 ⟨by decide, by decide⟩ ⟨by show cells + 1 ≤ 1208192; omega, by show slots + 6 ≤ 5428522; omega⟩ (fun H locs hP hO hh3 hS => ?_)
  refine lv_iload hx hb kd_law_1166 (lv_at hl6 1 rfl) ?_
  refine lv_icmp_eq hx hb kd_law_1168 rfl (fun _ => ?_) (fun z => absurd hr2 z)
  refine lv_iload hx hb kd_law_1173 (lv_at hl6 1 rfl) ?_
  have fin : W p l e room_1 s m #[.ref b] below meth c H locs (cells + 1) (slots + 6) Q (F0 m 1190 ls6 []) := by
    refine lv_goto hx hb kd_law_1190 rfl ?_
    exact kk h2 f1 H locs _ _ _ ⟨hP, hO, hS, J2, hh3, by omega, by omega⟩ (lv_sub hl6 [2, 3, 4, 5, 6] rfl)
  refine lv_if_ne hx hb kd_law_1175 rfl (fun _ => fin) (fun z => ?_)
  refine lv_aload_n (k := 3) hx hb kd_law_1178 rfl (lv_at hl6 3 rfl) ?_
  refine lv_iconst (v := 0) hx hb kd_law_1179 rfl ?_
  refine va_lald (D := (dC, dI)) (tys := mw_tys cA) (a := qo) (cA := cA 3) (n := 1) (f := f1) (i := 0) hx hb hK.1 (kW2_P hP hO) 200 3 (by rw [List.getElem?_append_right (by rw [kW2_len]; exact Nat.le_refl _), kW2_len]; rfl) rfl (fun z => by rcases z with z | z; exact absurd z (by decide); exact absurd z (by decide)) kd_law_1180 ?_
  refine lv_iload hx hb kd_law_1181 (lv_at hl6 0 rfl) ?_
  refine lv_i2l hx hb kd_law_1183 rfl ?_
  refine W.lcmp hx hb kd_law_1184 ?_
  have z0 : f1 (0 : Int32).toNatClampNeg = v2.toInt64 := hf2 z
  rw [z0, lg_self]
  exact lv_if_eq hx hb kd_law_1185 rfl (fun _ => fin) (fun z => absurd rfl z)
end
