/-! THE LAW's START: its first instructions (memberships printed by tools/gen_ws0.py) -/
theorem ws_c8 : Cond.classLink "LinkedCoresLaw" 8 (c2_on 0) ∈ mw_good := mw_good_of (mw_tm1 (List.mem_of_getElem? (i := 32) rfl)) rfl
theorem ws_c79 : Cond.classLink "LinkedCoresLaw" 79 (c2_on 12) ∈ mw_good := mw_good_of (mw_tm8 (List.mem_of_getElem? (i := 219) rfl)) rfl
theorem ws_m78 : Cond.methodLink "LinkedCoresLaw" 78 (c2_y 0) ∈ mw_good := mw_good_of (mw_tm1 (List.mem_of_getElem? (i := 34) rfl)) rfl
theorem ws_m81 : Cond.methodLink "LinkedCoresLaw" 81 (c2_y 12) ∈ mw_good := mw_good_of (mw_tm8 (List.mem_of_getElem? (i := 221) rfl)) rfl
theorem ws_d0 : decode code 0 = .ok (.new 8, 3) := by decide +kernel
theorem ws_d3 : decode code 3 = .ok (.dup, 1) := by decide +kernel
theorem ws_d4 : decode code 4 = .ok (.invokespecial 78, 3) := by decide +kernel
theorem ws_d7 : decode code 7 = .ok (.astore_n 1, 1) := by decide +kernel
theorem ws_d8 : decode code 8 = .ok (.new 79, 3) := by decide +kernel
theorem ws_d11 : decode code 11 = .ok (.dup, 1) := by decide +kernel
theorem ws_d12 : decode code 12 = .ok (.invokespecial 81, 3) := by decide +kernel
theorem ws_d15 : decode code 15 = .ok (.astore_n 2, 1) := by decide +kernel
theorem ws_d16 : decode code 16 = .ok (.iconst 1, 1) := by decide +kernel
theorem ws_d17 : decode code 17 = .ok (.newarray .long, 2) := by decide +kernel
theorem ws_d19 : decode code 19 = .ok (.astore_n 3, 1) := by decide +kernel
theorem ws_d20 : decode code 20 = .ok (.iconst 0, 1) := by decide +kernel
theorem ws_d21 : decode code 21 = .ok (.istore 4, 2) := by decide +kernel
theorem ws_z : (c2_z 0).length ≤ 1000 ∧ (c2_z 12).length ≤ 1000 ∧ c2_l 0 ≤ 100 ∧ c2_l 12 ≤ 100 ∧ c2_na 0 = 0 ∧ c2_na 12 = 0 ∧ c2_pos 2 0 = 0 ∧ c2_pos 15 0 = 113 := by decide +kernel
section
variable {p : Program} {l : Launch} {e : Env} {s : State} {m : MethodId} {args : Array Value} {below : List Frame} {meth : Method} {c : Code} {H : Heap} {locs : List Loc} {Q : State → Prop} {ls : Array Slot} {rest : List Value}
variable {dC : Nat → ClassId} {dI : Nat → Nat → Nat} {cA : Nat → ClassId} {eA : Nat → Nat} {B : Nat}
theorem ws_new {a pc k : Nat} {hs : List c2_C} (hx : p.tables.exec = Jvm.exec) (hb : c.code = code) (hown : s.vm.findClass "LinkedCoresLaw" = some m.cls) (hg : ∀ w ∈ mw_good, w.before args s = true) (hK : mw_K dC dI cA s) (hB : s.heap.size = B) (ha : a < 13) (d1 : decode code pc = .ok (.new k, 3)) (d2 : Cond.classLink "LinkedCoresLaw" k (c2_on a) ∈ mw_good)
    (hP : va_P (dC, dI) mw_cl (c2_w B cA eA hs) H) (hS : va_S (c2_A B) s.heap H locs) (h1 : hs.length + 1 ≤ 1000) (h2 : c2_sz hs + (c2_z a).length ≤ 3000000)
    (kk : ∀ H1, va_P (dC, dI) mw_cl (c2_w B cA eA (hs ++ [(0, a, c2_z a, [])])) H1 → va_S (c2_A B) s.heap H1 locs → W p l e room_1 s m args below meth c H1 locs (hs ++ [(0, a, c2_z a, [])]).length (c2_sz (hs ++ [(0, a, c2_z a, [])])) Q (F0 m (pc + 3) ls (.ref (B + hs.length) :: rest))) :
    W p l e room_1 s m args below meth c H locs hs.length (c2_sz hs) Q (F0 m pc ls rest) := by
  obtain ⟨C, T, N, ty, k1, k2, k3, k4, k5, k6, k7, k8⟩ := c2_Ko a ha
  have eC : C = c2_on a := c2_cln k1 ha
  subst eC
  have en : c2_n (0, a, c2_z a, []) = N := k6
  rw [k6] at h2
  have hA : ∀ q, s.heap.size ≤ q → c2_A B q := fun q hq => by show B ≤ q; omega
  refine va_new (D := (dC, dI)) (ci := a) (fs := (c2_z a).map (c2_v B)) (tys := mw_tys cA) hx hb hg k2 ty k3 hown (hg _ d2) (hg _ k7) (hg _ k8) hK.1 hP c2_D hS hA k1 (fun j hj => by rw [c2_zB]; exact k5 j hj) (show hs.length + 1 ≤ 1208192 by omega) (show c2_sz hs + N ≤ 5428522 by omega) d1 (fun q H1 hP1 hD1 hS1 => ?_)
  intro T1 hT1 X1
  have hq : q = B + hs.length := c2_q hP1 hD1 (by rw [← hT1]; have := X1.heapSize; omega)
  subst hq
  have e9 : c2_e B cA eA (0, a, c2_z a, []) = .inr (a, (c2_z a).map (c2_v B)) := rfl
  rw [← e9, ← c2_wa] at hP1
  have w9 := kk H1 hP1 hS1
  rw [c2_sa, en, List.length_append] at w9
  exact w9 T1 hT1 X1
theorem ws_init {a pc k n i : Nat} {hs hs1 : List c2_C} (hx : p.tables.exec = Jvm.exec) (hb : c.code = code) (hml : c.maxLocals = 7) (hown : s.vm.findClass "LinkedCoresLaw" = some m.cls) (hg : ∀ w ∈ mw_good, w.before args s = true) (hK : mw_K dC dI cA s) (hB : s.heap.size = B) (hH : c2_H l dC dI cA eA B s)
    (hex : c2_ex n 3 a (0, c2_args 0 [.inr (.inl i)], [], hs) = some hs1) (ha : a < 13) (hna : c2_na a = 0) (hla : c2_l a ≤ 100) (d1 : decode code pc = .ok (.invokespecial k, 3)) (d2 : Cond.methodLink "LinkedCoresLaw" k (c2_y a) ∈ mw_good)
    (hP : va_P (dC, dI) mw_cl (c2_w B cA eA hs) H) (hS : va_S (c2_A B) s.heap H locs) (hls : ls.size = 7) (hr : (rest.map fun v => v.category).sum ≤ 8) (h1 : hs1.length ≤ 1000) (h2 : c2_sz hs1 ≤ 3000000)
    (kk : ∀ H1 locs1, va_P (dC, dI) mw_cl (c2_w B cA eA hs1) H1 → va_S (c2_A B) s.heap H1 locs1 → W p l e room_1 s m args below meth c H1 locs1 hs1.length (c2_sz hs1) Q (F0 m (pc + 3) ls rest)) :
    W p l e room_1 s m args below meth c H locs hs.length (c2_sz hs) Q (F0 m pc ls (.ref (B + i) :: rest)) := by
  obtain ⟨m1, m2, m3, m4, m5, m6, m7⟩ := c2_M a ha
  have mo := c2_mono _ _ _ _ _ hex
  dsimp only at mo
  obtain ⟨x1, x2⟩ := mo
  have hM : Met l (c2_y a) (Cond.code (c2_y a) (c2_b a) (c2_l a) none :: mw_good) (c2_rm 3 (hs1.length - hs.length) (c2_sz hs1 - c2_sz hs)) (c2_P dC dI cA eA B s (((.inr (.inl i) : c2_V) :: []).map (c2_v B)) hs) (c2_Q dC dI cA eA B hs1) (hs1.length - hs.length) (c2_sz hs1 - c2_sz hs) (c2_A B) := c2_met hH ha hna.symm (fun v hv => by cases hv) (fun p e s m args below meth c X => c2_main hH n 3 a _ hs1 hex ha p e s m args below meth c hs X ⟨Nat.le_refl _, Nat.le_refl _⟩)
  intro T hT Y
  have hsize : H.size = B + hs.length := c2_size hP (by have := hS.1; omega) (by rw [← hT]; have := Y.heapSize; omega)
  have hpre : PreS s H (c2_P dC dI cA eA B s (((.inr (.inl i) : c2_V) :: []).map (c2_v B)) hs) (.ref (B + i) :: []) := ⟨c2_bl, fun U hU hW => ⟨rfl, by rw [hU]; exact hP, by rw [hU]; exact hsize, mw_K.moved9 hW hK, hW, fun q hq => by rw [hU]; exact hS.2.1 q hq (fun z => by have z : B ≤ q := z; omega)⟩⟩
  have hgood : GoodIn mw_good (Cond.code (c2_y a) (c2_b a) (c2_l a) none :: mw_good) := fun w hw => by
    rcases List.mem_cons.mp hw with rfl | hw
    · exact ⟨m1, good_of_word (List.mem_filter.mp m1).2⟩
    · exact ⟨hw, good_of_word (List.mem_filter.mp hw).2⟩
  have hRR : (c2_rm 3 (hs1.length - hs.length) (c2_sz hs1 - c2_sz hs)).frames + 1 ≤ room_1.frames ∧ 8 + (c2_l a + 11) + (c2_rm 3 (hs1.length - hs.length) (c2_sz hs1 - c2_sz hs)).locals ≤ room_1.locals := ⟨by show 6 + 1 ≤ 2048; omega, by show 8 + (c2_l a + 11) + 240 ≤ 84000; omega⟩
  have hff : hs.length + (hs1.length - hs.length) ≤ room_1.cells ∧ c2_sz hs + (c2_sz hs1 - c2_sz hs) ≤ room_1.slots := ⟨by show _ ≤ 1208192; omega, by show _ ≤ 5428522; omega⟩
  have run : va_Run p l e room_1 s m args below meth c H locs hs.length (c2_sz hs) (hs1.length - hs.length) (c2_sz hs1 - c2_sz hs) (F0 m pc ls (.ref (B + i) :: rest)) rest (c2_Q dC dI cA eA B hs1 (.ref (B + i) :: []).toArray) (c2_A B) :=
    va_runI (As := []) ⟨hx, hb, hml, hown, hg⟩ hM (cwI (c2_na a) hg hgood rfl rfl rfl (hg _ m3) (hg _ d2) (hg _ m2) rfl m5 hRR) hpre rfl (by rw [hna]; rfl) hls rfl (by show 2 * 0 + _ ≤ 8; omega) d1 hff
  refine va_callv (a := (.ref (B + i) :: []).toArray) run hS (fun q _ z => z) (fun q z => z) (fun u t H1 locs1 hth hvm hpost hB1 hz hk hS1 => ?_) T hT Y
  have w9 := kk H1 locs1 (by rw [← hth]; exact hB1) hS1
  rw [show hs.length + (hs1.length - hs.length) = hs1.length by omega, show c2_sz hs + (c2_sz hs1 - c2_sz hs) = c2_sz hs1 by omega]
  exact w9
end
theorem ws_loop {l : Launch} {p : Program} {e : Env} {s : State} {m : MethodId} {meth : Method} {c : Code} {below : List Frame} {b L : Nat} {xs : Nat → Int32} {dC : Nat → ClassId} {dI : Nat → Nat → Nat} {cA : Nat → ClassId} {ad : Nat → Nat → Nat} {aV : Nat → Nat} {H : Heap} {locs : List Loc} {ls : Array Slot} {cells slots : Nat} (hbd : L ≤ 16384) (hAt : lw_At p s m meth c b L xs) (hK : mw_K dC dI cA s) (had : ∀ g k, c2_sp g = false → ad g k = s.heap.size + c2_pos g k) (kh : kH l s ad aV) (kca : kCa s #[.ref b])
    (hP : va_P (dC, dI) mw_cl (c2_w s.heap.size cA (ad 16) c2_hT ++ [(s.heap.size + 200, .inl (cA 3, 1, .inr (.inl (fun _ => 0))))]) H) (hS : va_S (c2_A s.heap.size) s.heap H locs) (hc : cells ≤ 1000) (hsl : slots ≤ 3000000) (hl : lv_has ls 7 [(4, .int 0), (3, .ref (s.heap.size + 200)), (2, .ref (s.heap.size + 113)), (1, .ref (s.heap.size + 0)), (0, .ref b)]) : W p l e room_1 s m #[.ref b] below meth c H locs cells slots (lw_Z below #[Value.ref b] s) (F0 m 23 ls []) := by
  obtain ⟨hx, hb, hr, hml, hown, hts, hX, hbl, hlk, hgv⟩ := hAt
  have hg : ∀ w ∈ mw_good, w.before #[Value.ref b] s = true := fun w hw => hts w (List.mem_filter.mp hw).1
  have hlen : (c2_w s.heap.size cA (ad 16) c2_hT).length = 200 := by rw [c2_wl]; exact c2_lT.1
  have C : kCtx l dC dI ad aV cA (s.heap.size + 200) p s m meth c b L xs := by
    refine ⟨kh, Nat.le_add_right _ _, fun z => ?_, ⟨hx, hb, hml, hown, hg, hK, State.WarmedH.refl s⟩, hX, hbl, kca, hbd, hr, hlk⟩
    obtain ⟨z, hz, e⟩ := z
    obtain ⟨a1, a2, -⟩ := c2_cha z hz
    rw [had _ _ a1] at e
    omega
  have hP1 : va_P (dC, dI) mw_cl (c2_w s.heap.size cA (ad 16) c2_hT) H := fun k q hq => hP k q (by rw [List.getElem?_append_left (List.getElem?_eq_some_iff.mp hq).1]; exact hq)
  have hat : va_at (dC, dI) mw_cl (kOut cA (s.heap.size + 200) (fun _ => 0)) H := hP 200 _ (by rw [List.getElem?_append_right (by rw [hlen]; exact Nat.le_refl _), hlen]; rfl)
  refine k_loop C 4097 0 c2_h0 (fun _ => 0) H locs cells slots ls (by omega) (by decide) ⟨c2_fin had (fun _ => rfl) hP1, hat, hS, jw_0, jw_hv, by omega, by omega⟩ ?_
  have e2 : ad 2 0 = s.heap.size + 0 := by rw [had 2 0 rfl, ws_z.2.2.2.2.2.2.1]
  have e15 : ad 15 0 = s.heap.size + 113 := by rw [had 15 0 rfl, ws_z.2.2.2.2.2.2.2]
  unfold kLv
  rw [e2, e15]
  exact hl
theorem whole_start (l : Launch) (hfl : l.flags = flags0) {p : Program} {e : Env} {s : State} {m : MethodId} {meth : Method} {c : Code} {below : List Frame} {b L : Nat} {xs : Nat → Int32} (hbd : L ≤ 16384) (hAt : lw_At p s m meth c b L xs) : W p l e room_1 s m #[Value.ref b] below meth c s.heap [] 0 0 (lw_Z below #[Value.ref b] s) (entryFrame m ([Value.ref b] : List Value).toArray 7) := by
  obtain ⟨dC, dI, cA, ad, aV, hH, hK, had, kh, kca⟩ := st_start hfl hAt
  have hAt0 := hAt
  obtain ⟨hx, hb, hr, hml, hown, hts, hX, hbl, hlk, hgv⟩ := hAt
  have hown : s.vm.findClass "LinkedCoresLaw" = some m.cls := hown
  have hg : ∀ w ∈ mw_good, w.before #[Value.ref b] s = true := fun w hw => hts w (List.mem_filter.mp hw).1
  have hl := lv_entry [Value.ref b] (n := 7) (by show 1 ≤ 7; decide)
  rw [lg_entry_eq]
  generalize (lg_sl [Value.ref b] ++ List.replicate (7 - (lg_sl [Value.ref b]).length) Slot.unset).toArray = ls at hl ⊢
  have hl : lv_has ls 7 [(0, .ref b)] := hl
  obtain ⟨z1, z2, z3, z4, z5, z6, -, -⟩ := ws_z
  have lC := c2_lC
  have lT := c2_lT
  have hP0 : va_P (dC, dI) mw_cl (c2_w s.heap.size cA (ad 16) []) s.heap := fun k q h => by cases h
  refine ws_new (hs := []) hx hb hown hg hK rfl (by decide : 0 < 13) ws_d0 ws_c8 hP0 va_S.rf (by decide) (by show 0 + (c2_z 0).length ≤ 3000000; omega) (fun H1 hP1 hS1 => ?_)
  refine lv_dup hx hb ws_d3 rfl ?_
  refine ws_init (hs := [(0, 0, c2_z 0, [])]) (i := 0) (n := 3000) hx hb hml hown hg hK rfl hH c2_r1e (by decide) z5 z3 ws_d4 ws_m78 hP1 hS1 hl.1 (by show 1 + 0 ≤ 8; decide) (by omega) (by omega) (fun H2 locs2 hP2 hS2 => ?_)
  refine lv_astore_n hx hb ws_d7 rfl hl (by decide) rfl (fun ls1 hl1 => ?_)
  refine ws_new hx hb hown hg hK rfl (by decide : 12 < 13) ws_d8 ws_c79 hP2 hS2 (by omega) (by omega) (fun H3 hP3 hS3 => ?_)
  refine lv_dup hx hb ws_d11 rfl ?_
  rw [lC.1]
  refine ws_init (i := 113) (n := 3000) hx hb hml hown hg hK rfl hH c2_r2e (by decide) z6 z4 ws_d12 ws_m81 hP3 hS3 hl1.1 (by show 1 + 0 ≤ 8; decide) (by omega) (by omega) (fun H4 locs4 hP4 hS4 => ?_)
  refine lv_astore_n hx hb ws_d15 rfl hl1 (by decide) rfl (fun ls2 hl2 => ?_)
  refine lv_iconst (v := 1) hx hb ws_d16 rfl ?_
  have hA : ∀ q, s.heap.size ≤ q → c2_A s.heap.size q := fun q hq => hq
  refine va_newa (D := (dC, dI)) (tys := mw_tys cA) (ty := .long) (a0 := (1, .inr (.inl (fun _ => 0)))) (N' := 1) (atype := .long) hx hb (hg _ c2_ac3) rfl hK.1 hP4 c2_D hS4 hA (fun _ => rfl) (by decide) (by decide) (by decide) (show c2_hT.length + 1 ≤ 1208192 by omega) (show c2_sz c2_hT + 1 ≤ 5428522 by omega) ws_d17 (fun q c' H5 hK5 hP5 hD5 hS5 => ?_)
  have := c2_tys (t0 := 3) (cl0 := cA 3) hK5 rfl
  subst this
  intro T1 hT1 X1
  have hq : q = s.heap.size + c2_hT.length := c2_q hP5 hD5 (by rw [← hT1]; have := X1.heapSize; omega)
  rw [lT.1] at hq
  subst hq
  revert T1
  refine lv_astore_n hx hb ws_d19 rfl hl2 (by decide) rfl (fun ls3 hl3 => ?_)
  refine lv_iconst (v := 0) hx hb ws_d20 rfl ?_
  refine lv_istore hx hb ws_d21 hl3 (by decide) rfl (fun ls4 hl4 => ?_)
  exact ws_loop hbd hAt0 hK had kh kca hP5 hS5 (by omega) (by omega) hl4
