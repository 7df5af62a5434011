/-! THE LAW over the real machine: its loop -/
theorem and_31 (y : Int32) : ∃ u : Nat, u < 32 ∧ y &&& 31 = nI u := by
  have e : (y &&& 31).toBitVec.toNat ≤ 31 := by
    show (y.toBitVec &&& (31 : Int32).toBitVec).toNat ≤ 31
    rw [BitVec.toNat_and]
    exact Nat.and_le_right
  refine ⟨(y &&& 31).toBitVec.toNat, by omega, ?_⟩
  apply Int32.toBitVec_inj.mp
  show _ = BitVec.ofNat 32 _
  rw [BitVec.ofNat_toNat, BitVec.setWidth_eq]
theorem kl_cmp {L j : Nat} (hL : L ≤ 16384) (hj : j ≤ 4096) (h : ¬ Int32.ofNat L - 4 < nI (4 * j)) : 4 * j + 4 ≤ L := by
  have e1 : (Int32.ofNat L : Int32).toInt = L := nI_toInt (by omega)
  have e2 : (nI (4 * j)).toInt = 4 * j := by rw [nI_toInt (by omega)]; omega
  have e3 : (Int32.ofNat L - 4).toInt = L - 4 := by
    rw [Int32.toInt_sub, e1]
    have : (4 : Int32).toInt = 4 := rfl
    rw [this]
    exact Int.bmod_eq_of_le (by omega) (by omega)
  have h2 : ¬ (Int32.ofNat L - 4).toInt < (nI (4 * j)).toInt := fun z => h (Int32.lt_iff_toInt_lt.mpr z)
  rw [e2, e3] at h2
  omega
section
variable {l : Launch} {dC : Nat → ClassId} {dI : Nat → Nat → Nat} {ad : Nat → Nat → Nat} {aV : Nat → Nat} {cA : Nat → ClassId} {qo : Nat} {p : Program} {e : Env} {s : State} {m : MethodId} {below : List Frame} {meth : Method} {c : Code} {b L : Nat} {xs : Nat → Int32}
theorem k_loop (C : kCtx l dC dI ad aV cA qo p s m meth c b L xs) : ∀ (n j : Nat) (h : mj_H) (f : Nat → Int64) (H : Heap) (locs : List Loc) (cells slots : Nat) (ls : Array Slot), L < 4 * j + 4 * n + 4 → j ≤ 4096 → kStt dC dI ad cA qo b s j h f H locs cells slots → lv_has ls 7 (kLv ad qo b j) → W p l e room_1 s m #[.ref b] below meth c H locs cells slots (lw_Z below #[Value.ref b] s) (F0 m 23 ls []) := by
  intro n
  induction n with
  | zero =>
    intro j h f H locs cells slots ls hn hj4 St hl
    obtain ⟨k, hqn, hqA, F, hX, hbl, hca, hL, hr, hlk⟩ := C
    obtain ⟨hP, hO, hS, J, hh, hc9, hs9⟩ := St
    obtain ⟨hx, hb, hml, hown, hts, hK, hW0⟩ := id F
    have hbA : ¬ kNew s b := fun z => by have z : s.heap.size ≤ b := z; omega
    refine lv_iload hx hb kd_law_23 (lv_at hl 0 rfl) ?_
    refine lv_aload_n (k := 0) hx hb kd_law_25 rfl (lv_at hl 4 rfl) ?_
    refine va_slen hx hb hX hbl hbA hS kd_law_26 ?_
    refine lv_iconst (v := 4) hx hb kd_law_27 rfl ?_
    refine lv_isub hx hb kd_law_28 ?_
    refine lv_icmp_gt (tgt := 1199) hx hb kd_law_29 rfl (fun _ => ?_) (fun z => absurd (kl_cmp hL hj4 z) (by omega))
    refine lv_iconst (v := 1) hx hb kd_law_1199 rfl ?_
    refine va_forget (fun q hq => hS.2.2 q hq) ?_
    refine W.widen (k := 1208192) (n := 5428522) (by omega) (by omega) ?_
    exact lw_ret hx hb hr hlk kd_law_1200
  | succ n ih =>
    intro j h f H locs cells slots ls hn hj4 St hl
    have C0 := C
    have St0 := St
    obtain ⟨k, hqn, hqA, F, hX, hbl, hca, hL, hr, hlk⟩ := C
    obtain ⟨hP, hO, hS, J, hh, hc9, hs9⟩ := St
    obtain ⟨hx, hb, hml, hown, hts, hK, hW0⟩ := id F
    have hbA : ¬ kNew s b := fun z => by have z : s.heap.size ≤ b := z; omega
    refine lv_iload hx hb kd_law_23 (lv_at hl 0 rfl) ?_
    refine lv_aload_n (k := 0) hx hb kd_law_25 rfl (lv_at hl 4 rfl) ?_
    refine va_slen hx hb hX hbl hbA hS kd_law_26 ?_
    refine lv_iconst (v := 4) hx hb kd_law_27 rfl ?_
    refine lv_isub hx hb kd_law_28 ?_
    refine lv_icmp_gt (tgt := 1199) hx hb kd_law_29 rfl (fun _ => ?_) (fun z => ?_)
    · refine lv_iconst (v := 1) hx hb kd_law_1199 rfl ?_
      refine va_forget (fun q hq => hS.2.2 q hq) ?_
      refine W.widen (k := 1208192) (n := 5428522) (by omega) (by omega) ?_
      exact lw_ret hx hb hr hlk kd_law_1200
    have hj := kl_cmp hL hj4 z
    have cont : ∀ (h' : mj_H) (f' : Nat → Int64) (H' : Heap) (locs' : List Loc) (cells' slots' : Nat) (ls' : Array Slot), kStt dC dI ad cA qo b s (j + 1) h' f' H' locs' cells' slots' → lv_has ls' 7 (kLv ad qo b j) → W p l e room_1 s m #[.ref b] below meth c H' locs' cells' slots' (lw_Z below #[Value.ref b] s) (F0 m 1193 ls' []) := by
      intro h' f' H' locs' cells' slots' ls' St' hl'
      refine lv_iinc (nL := 7) (k := 0) (x := nI (4 * j)) (v := nI (4 * (j + 1))) (lv := kLv ad qo b j) (lv' := kLv ad qo b (j + 1)) hx hb kd_law_1193 hl' rfl ?_ (by decide) rfl (fun ls2 hl2 => ?_)
      · show nI (4 * j) + nI 4 = nI (4 * (j + 1))
        rw [nI_add]
        exact congrArg nI (by omega)
      · refine lv_goto (tgt := 23) hx hb kd_law_1196 rfl ?_
        exact ih (j + 1) h' f' H' locs' cells' slots' ls2 (by omega) (by omega) St' hl2
    refine lv_aload_n (k := 0) hx hb kd_law_32 rfl (lv_at hl 4 rfl) ?_
    refine lv_iload hx hb kd_law_33 (lv_at hl 0 rfl) ?_
    refine va_sld hx hb hX hbl hbA hS ?_ kd_law_35 ?_
    · have := kin (a := 4 * j) (k := 0) (L := L) (by omega) hL
      rw [show nI (4 * j) + nI 0 = nI (4 * j) by rw [nI_add]; rfl] at this
      exact this
    refine lv_bipush (v := 31) hx hb kd_law_36 rfl ?_
    refine lv_iand hx hb kd_law_38 ?_
    obtain ⟨u, hu, eu⟩ := and_31 (xs (nI (4 * j)).toNatClampNeg)
    rw [eu]
    rcases Nat.lt_or_ge u 19 with hu9 | hu9
    · have cs : u = 0 ∨ u = 1 ∨ u = 2 ∨ u = 3 ∨ u = 4 ∨ u = 5 ∨ u = 6 ∨ u = 7 ∨ u = 8 ∨ u = 9 ∨ u = 10 ∨ u = 11 ∨ u = 12 ∨ u = 13 ∨ u = 14 ∨ u = 15 ∨ u = 16 ∨ u = 17 ∨ u = 18 := by omega
      rcases cs with rfl | rfl | rfl | rfl | rfl | rfl | rfl | rfl | rfl | rfl | rfl | rfl | rfl | rfl | rfl | rfl | rfl | rfl | rfl
      · exact lv_tableIn (tgt := 128) hx hb kd_law_39 (by decide) (by decide) rfl rfl (kx_put C0 St0 hl hj cont)
      · exact lv_tableIn (tgt := 184) hx hb kd_law_39 (by decide) (by decide) rfl rfl (kx_end C0 St0 hl hj cont)
      · exact lv_tableIn (tgt := 220) hx hb kd_law_39 (by decide) (by decide) rfl rfl (kx_compile C0 St0 hl hj cont)
      · exact lv_tableIn (tgt := 233) hx hb kd_law_39 (by decide) (by decide) rfl rfl (kx_fault C0 St0 hl hj cont)
      · exact lv_tableIn (tgt := 289) hx hb kd_law_39 (by decide) (by decide) rfl rfl (kx_processor C0 St0 hl hj cont)
      · exact lv_tableIn (tgt := 357) hx hb kd_law_39 (by decide) (by decide) rfl rfl (kx_code C0 St0 hl hj cont)
      · exact lv_tableIn (tgt := 425) hx hb kd_law_39 (by decide) (by decide) rfl rfl (kx_instruction C0 St0 hl hj cont)
      · exact lv_tableIn (tgt := 505) hx hb kd_law_39 (by decide) (by decide) rfl rfl (kx_link C0 St0 hl hj cont)
      · exact lv_tableIn (tgt := 573) hx hb kd_law_39 (by decide) (by decide) rfl rfl (kx_begin C0 St0 hl hj cont)
      · exact lv_tableIn (tgt := 597) hx hb kd_law_39 (by decide) (by decide) rfl rfl (kx_input C0 St0 hl hj cont)
      · exact lv_tableIn (tgt := 653) hx hb kd_law_39 (by decide) (by decide) rfl rfl (kx_run C0 St0 hl hj cont)
      · exact lv_tableIn (tgt := 721) hx hb kd_law_39 (by decide) (by decide) rfl rfl (kx_beat C0 St0 hl hj cont)
      · exact lv_tableIn (tgt := 777) hx hb kd_law_39 (by decide) (by decide) rfl rfl (kx_rounds C0 St0 hl hj cont)
      · exact lv_tableIn (tgt := 833) hx hb kd_law_39 (by decide) (by decide) rfl rfl (kx_outcome C0 St0 hl hj cont)
      · exact lv_tableIn (tgt := 877) hx hb kd_law_39 (by decide) (by decide) rfl rfl (kx_core C0 St0 hl hj cont)
      · exact lv_tableIn (tgt := 945) hx hb kd_law_39 (by decide) (by decide) rfl rfl (kx_ready C0 St0 hl hj cont)
      · exact lv_tableIn (tgt := 1013) hx hb kd_law_39 (by decide) (by decide) rfl rfl (kx_word C0 St0 hl hj cont)
      · exact lv_tableIn (tgt := 1081) hx hb kd_law_39 (by decide) (by decide) rfl rfl (kx_output C0 St0 hl hj cont)
      · exact lv_tableIn (tgt := 1137) hx hb kd_law_39 (by decide) (by decide) rfl rfl (kx_about C0 St0 hl hj cont)
    · refine lv_tableOut (tgt := 1193) hx hb kd_law_39 (Or.inr ?_) rfl ?_
      · rw [nI_toInt (by omega)]
        omega
      · exact cont h f H locs cells slots ls ⟨hP, hO, hS, J.le (by omega), hh, by omega, by omega⟩ hl
end
