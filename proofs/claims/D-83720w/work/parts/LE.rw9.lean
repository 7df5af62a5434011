/-! rows: all processes -/
section
variable (sy : List Sym) (pz : List (Nat × Nat))
/-- each process of a row fits in c words -/
def mRw (c : Nat) : Tm → Prop
  | .elem p ps => 4 + (mz sy pz p 0).1 + (mz sy pz p 0).2 ≤ c ∧ mRw c ps
  | _ => True
def meQ (c : Nat) (A : Tm) : Nat → Prop
  | 1 => mRw sy pz c A
  | md => 4 + (mz sy pz A md).1 + (mz sy pz A md).2 ≤ c
variable {sy pz}
theorem mRw_1 {c : Nat} : ∀ ps, 4 + (mz sy pz ps 1).1 + (mz sy pz ps 1).2 ≤ c → mRw sy pz c ps := by
  intro ps
  induction ps using mRw.induct with
  | case1 p ps ih =>
    intro h
    have h' : 4 + max (mz sy pz p 0).1 (mz sy pz ps 1).1 + max (mz sy pz p 0).2 (mz sy pz ps 1).2 ≤ c := h
    exact ⟨by omega, ih (by omega)⟩
  | case2 A h =>
    intro _
    unfold mRw
    split
    · exact (h _ _ rfl).elim
    · trivial
theorem mRw_4 {c : Nat} : ∀ ps, (mz sy pz ps 4).2 ≤ c → mRw sy pz c ps := by
  intro ps
  induction ps using mRw.induct with
  | case1 p ps ih =>
    intro h
    have h' : (1 + (mz sy pz p 0).1 + (mz sy pz p 0).2 + 3) + (mz sy pz ps 4).2 ≤ c := h
    exact ⟨by omega, ih (by omega)⟩
  | case2 A h =>
    intro _
    unfold mRw
    split
    · exact (h _ _ rfl).elim
    · trivial
def arL (sy : List Sym) (vis AL : List Nat) : Prop := ∀ a, fnv sy vis a → arrS (srO sy a) = true → a ∈ AL
theorem arL.cons {vis AL : List Nat} {s : Nat} (h : arL sy vis AL) (hs : arrS (srO sy s) = false) : arL sy (s :: vis) AL := by
  intro a ha h2
  have k3 : (if (syO sy s).1 = (syO sy a).1 then some s else fnd sy vis (syO sy a).1) = some a := ha
  split at k3
  · have e := Option.some.inj k3
    rw [e, h2] at hs
    cases hs
  · exact h a k3 h2
theorem arL.see {vis AL : List Nat} {s c : Nat} (h : arL sy vis AL) : arL sy (seeS vis s c) (List.range' s c ++ AL) := by
  intro a ha h2
  rw [List.mem_append]
  rcases fnd_see c ha with q | q
  · exact Or.inr (h a q h2)
  · exact Or.inl q
variable {kp : Nat → Bool} {fl : Bool} {pb : Nat → Nat} {pa : List (List Nat)}
theorem gen (hk : ∀ s, srO sy s = 11 → kp s = false) (hpa : ∀ p, (pa.getD p []).length ≤ 6) : ∀ (A : Tm) (md : Nat) (vis : List Nat), rdQ sy A md vis → ∀ (lv d u p c z : Nat) (r : Nv) (Z : List (List Nv)) (AL : List Nat), meQ sy pz c A md → stR d u p c → p ≤ 42 → d ≤ 8 → ivZ Z p d → d ≤ lv → (2 ≤ md ∨ p ≤ 41 ∨ 7 ≤ lv ∨ (md = 0 ∧ 32 ≤ z)) → arL sy vis AL → clm (kK 20 md false) (wP kp fl sy pb pa A md r Z) (cQ sy A md lv) d AL.length z := by
  intro A md vis
  have K0 : kK 20 0 false = 20 := rfl
  have K1 : kK 20 1 false = 0 := rfl
  have K2 : kK 20 2 false = 0 := rfl
  have K3 : kK 20 3 false = 0 := rfl
  induction A, md, vis using rdQ.induct with
  | case1 ul s c0 p0 vis ih =>
    intro h lv d u p c z r Z AL hm st hp hd I hlv hz hAL
    have hm' : 4 + (dsz sy s c0 + (mz sy pz p0 0).1) + (mz sy pz p0 0).2 ≤ c := hm
    have i1 := ih h.2 lv d u p c z r Z (List.range' s c0 ++ AL) (by show 4 + _ + _ ≤ c; omega) st hp hd I hlv hz hAL.see
    have w1 := wP_dec (kp := kp) (fl := fl) (sy := sy) (pb := pb) (pa := pa) (u := ul) (s := s) (c := c0) (p := p0) (r := r) (Z := Z)
    have c2 := cN_2 sy s c0
    have e : cQ sy (.div (.index ul) (.rem (.elem (.index s) (.index c0)) p0)) 0 lv = 2 * lv + 4 + (if 0 < szO sy s then 3 else 0) + cN sy s c0 + cQ sy p0 0 lv := rfl
    rw [List.length_append, List.length_range'] at i1
    rcases i1 with i1 | ⟨Q, q1, q2, q3⟩
    · left; omega
    · right; exact ⟨Q, q1, by omega, by omega⟩
  | case2 ul v e vis =>
    intro h lv d u p c z r Z AL hm st hp hd I hlv hz hAL
    left
    have e1 := lwT (m := 2) (r := r) hk hp hd I h.2.1 h.2.2.1
    have e2 := lwE (r := r) hk hp hd I h.2.2.2
    have e3 := wF_app (fun r => evE kp sy r e) (fun r => evT kp sy r 2 v) r Z
    obtain ⟨s1, s2, s3⟩ := st.p8
    unfold lxP loP at *
    show 3 * wF (fun r => evE kp sy r e ++ evT kp sy r 2 v) r Z + 20 ≤ 20 * (2 * lv + 3 + cE sy v + cE sy e) + z
    omega
  | case3 ul v e vis =>
    intro h lv d u p c z r Z AL hm st hp hd I hlv hz hAL
    left
    have e1 := lwT (m := 4) (r := r) hk hp hd I h.2.1 h.2.2.1
    have e2 := lwE (r := r) hk hp hd I h.2.2.2
    have e3 := wF_app (fun r => evE kp sy r e) (fun r => evT kp sy r 4 v) r Z
    obtain ⟨s1, s2, s3⟩ := st.p8
    unfold lxP loP at *
    show 3 * wF (fun r => evE kp sy r e ++ evT kp sy r 4 v) r Z + 20 ≤ 20 * (2 * lv + 2 + cE sy v + cE sy e) + z
    omega
  | case4 ul v e vis =>
    intro h lv d u p c z r Z AL hm st hp hd I hlv hz hAL
    left
    have e1 := lwT (m := 8) (r := r) hk hp hd I h.2.1 h.2.2.1
    have e2 := lwT (m := 2) (r := r) hk hp hd I h.2.2.2.1 h.2.2.2.2
    have e3 := wF_app (fun r => evT kp sy r 8 v) (fun r => evT kp sy r 2 e) r Z
    obtain ⟨s1, s2, s3⟩ := st.p8
    unfold loP at *
    show 3 * wF (fun r => evT kp sy r 8 v ++ evT kp sy r 2 e) r Z + 20 ≤ 20 * (2 * lv + 2 + cE sy v + cE sy e) + z
    omega
  | case5 ul q as vis =>
    intro h lv d u p c z r Z AL hm st hp hd I hlv hz hAL
    left
    have e1 := lwA (pb := pb) (r := r) hk hp hd I (hpa q) h.2
    obtain ⟨s1, s2, s3⟩ := st.p8
    unfold lxP loP at *
    show 3 * wF (fun r => evA kp sy pb r (pa.getD q []) as) r Z + 20 ≤ 20 * (2 * lv + 3 + cA sy as) + z
    have dd : d ≤ 4 ∨ d = 5 ∨ 6 ≤ d := by omega
    rcases dd with dd | dd | dd
    · omega
    · omega
    · omega
  | case6 ul ps vis ih =>
    intro h lv d u p c z r Z AL hm st hp hd I hlv hz hAL
    obtain ⟨s1, s2, s3⟩ := st.p8
    have i1 := ih h.2 (lv + 1) d u p c 0 r Z AL (mRw_1 ps hm) st hp hd I (by omega) (by omega) hAL
    exact i1.mono (C' := 2 * lv + 4 + cQ sy ps 1 (lv + 1)) (Nat.le_refl _) (by omega) (by omega)
  | case7 ul s e1 e2 p0 vis ih =>
    intro h lv d u p c z r Z AL hm st hp hd I hlv hz hAL
    obtain ⟨s1, s2, s3⟩ := st.p8
    have hm' : 4 + (2 + max (max (exw e1) (exw e2)) (mz sy pz p0 0).1) + (mz sy pz p0 0).2 ≤ c := hm
    have i1 := ih h.2.2.2 (lv + 1) d u p c 0 r Z AL (by show 4 + _ + _ ≤ c; omega) st hp hd I (by omega) (by omega) (hAL.cons (by rw [h.1.2]; rfl))
    have q1 := lwE (r := r) hk hp hd I h.2.1
    have q2 := lwE (r := r) hk hp hd I h.2.2.1
    have n1 : 1 ≤ ncs sy s := nc_1 _
    have w1 := wP_for (kp := kp) (fl := fl) (sy := sy) (pb := pb) (pa := pa) (u := ul) (s := s) (e1 := e1) (e2 := e2) (p := p0) (r := r) (Z := Z)
    have a1 : 3 * (wF (fun r => evE kp sy r e1) r Z + wF (fun r => evE kp sy r e2) r Z) ≤ 20 * (2 * lv + 8 + ncs sy s + cE sy e1 + cE sy e2) := by
      unfold lxP loP at *
      omega
    exact (i1.add (z := 0) a1).mono (C' := 2 * lv + 8 + ncs sy s + cE sy e1 + cE sy e2 + cQ sy p0 0 (lv + 1)) (by omega) (by omega) (by omega)
  | case8 ul z0 ps vis ih =>
    intro h lv d u p c z r Z AL hm st hp hd I hlv hz hAL
    obtain ⟨s1, s2, s3⟩ := st.p8
    have hm' : 4 + 3 + (3 + (mz sy pz ps 4).2) ≤ c := hm
    have i1 := ih h.2 (lv + 1) d u p c 0 r Z AL (mRw_4 ps (by omega)) st hp hd I (by omega) (by omega) hAL
    exact i1.mono (C' := 2 * lv + 4 + cQ sy ps 1 (lv + 1)) (Nat.le_refl _) (by omega) (by omega)
  | case9 ul z0 ps vis ih =>
    intro h lv d u p c z r Z AL hm st hp hd I hlv hz hAL
    obtain ⟨s1, s2, s3⟩ := st.p8
    have hm' : 4 + 3 + (3 + (mz sy pz ps 4).2) ≤ c := hm
    have i1 := ih h.2 (lv + 1) d u p c 0 r Z AL (mRw_4 ps (by omega)) st hp hd I (by omega) (by omega) hAL
    exact i1.mono (C' := 2 * lv + 7 + cQ sy ps 1 (lv + 1)) (Nat.le_refl _) (by omega) (by omega)
  | case10 ul s b m p0 vis ih =>
    intro h lv d u p c z r Z AL hm st hp hd I hlv hz hAL
    obtain ⟨⟨hu, h11⟩, hm1, hm8, hR⟩ := h
    obtain ⟨s1, s2, s3⟩ := st.p8
    have hm' : 4 + 3 + (3 + m * (1 + (mz sy pz p0 0).1 + (mz sy pz p0 0).2 + 3)) ≤ c := hm
    have hc' : 10 + m * (4 + (mz sy pz p0 0).1 + (mz sy pz p0 0).2) ≤ c := by
      rw [show 4 + (mz sy pz p0 0).1 + (mz sy pz p0 0).2 = 1 + (mz sy pz p0 0).1 + (mz sy pz p0 0).2 + 3 by omega]
      omega
    have hAL2 : arL sy (s :: vis) AL := hAL.cons (by rw [h11]; rfl)
    have n1 : 1 ≤ ncs sy s := nc_1 _
    have eC : cQ sy (.div (.index ul) (.rem (.index s) (.elem (.elem (.index b) (.index m)) p0))) 0 lv = 2 * lv + 10 + ncs sy s + cQ sy p0 0 (lv + 1) := rfl
    obtain ⟨k, hk1, hW⟩ := wP_loop (kp := kp) (fl := fl) (sy := sy) (pb := pb) (pa := pa) (u := ul) (s := s) (b := b) (m := m) (p := p0) (r := r) (Z := Z) hm1
    obtain ⟨v1, v2, v3⟩ := iV_loop (s := s) (b := b) (r := r) I hk1
    generalize hZ : xZ s b m k r Z = Z' at hW v1 v2 v3
    generalize hr : upE r s (nI (b + k)) = r' at hW
    generalize hcc : 4 + (mz sy pz p0 0).1 + (mz sy pz p0 0).2 = c' at hc'
    rw [eC]
    by_cases hm2 : m = 1
    · subst hm2
      rw [if_pos rfl] at v1 v3
      have I' : ivZ Z' p d := ⟨fun s0 => by
        by_cases e : s0 = s
        · rw [e]; omega
        · exact v1 s0 e, v3⟩
      have i1 := ih hR (lv + 1) d u p c' 0 r' Z' AL (by show 4 + _ + _ ≤ c'; omega) (st.mono (by omega)) hp hd I' (by omega) (by omega) hAL2
      exact i1.mono hW (by omega) (by omega)
    · rw [if_neg hm2] at v1 v3
      obtain ⟨st2, d8, hh⟩ := stR_step st hp hc' (by omega) (by omega) hm8
      have I' : ivZ Z' (max (p + 1) (m * (d + 1))) (d + 1) := ⟨fun s0 => by
        by_cases e : s0 = s
        · rw [e]; omega
        · have := v1 s0 e; omega, v3⟩
      have S1 := sD_s d
      rcases hh with hh | ⟨rfl, rfl, hx1, hx2⟩ | ⟨rfl, rfl, hx1, hx2⟩ | ⟨rfl, rfl, hx1, hx2⟩
      · have i1 := ih hR (lv + 1) (d + 1) (max u m) _ c' 32 r' Z' AL (by show 4 + _ + _ ≤ c'; omega) st2 hh d8 I' (by omega) (by omega) hAL2
        rcases i1 with i1 | ⟨Q, q1, q2, q3⟩
        · left; omega
        · right; exact ⟨Q, q1, q2, by omega⟩
      · have I'' : ivZ Z' 48 6 := ⟨fun s0 => by have := I'.1 s0; omega, I'.2⟩
        have z9 : zn 9 p0 0 := zn_of (pz := pz) (by omega) p0 0 _ hR (by omega)
        have w := hv68 (fl := fl) (pb := pb) (pa := pa) (r := r') (p2 := p + 1) (lv := lv + 1) hk hpa hR z9 h11 I'' v1 (by omega) (by omega)
        left; omega
      · have I'' : ivZ Z' 49 7 := ⟨fun s0 => by have := I'.1 s0; omega, I'.2⟩
        have z9 : zn 2 p0 0 := zn_of (pz := pz) (by omega) p0 0 _ hR (by omega)
        have w := hv77 (fl := fl) (pb := pb) (pa := pa) (r := r') (p2 := p + 1) (lv := lv + 1) hk hpa hR z9 h11 I'' v1 (by omega) (by omega) hAL2 (by omega)
        left; omega
      · have I'' : ivZ Z' 56 7 := ⟨fun s0 => by have := I'.1 s0; omega, I'.2⟩
        rcases Nat.lt_or_ge AL.length 20 with hq | hq
        · have z9 : zn 2 p0 0 := zn_of (pz := pz) (by omega) p0 0 _ hR (by omega)
          have w := hv77 (fl := fl) (pb := pb) (pa := pa) (r := r') (p2 := p + 1) (lv := lv + 1) hk hpa hR z9 h11 I'' v1 (by omega) (by omega) hAL2 (by omega)
          left; omega
        · have z9 : zn 1 p0 0 := zn_of (pz := pz) (by omega) p0 0 _ hR (by omega)
          have w := hv78 (fl := fl) (pb := pb) (pa := pa) (r := r') (p2 := p + 1) (lv := lv + 1) hk hR z9 h11 I'' v1 (by omega) (by omega) hAL2
          have S6 : sD 6 = 0 := rfl
          right; exact ⟨AL.length, hq, Nat.le_refl _, by omega⟩
  | case11 ul gs vis ih =>
    intro h lv d u p c z r Z AL hm st hp hd I hlv hz hAL
    have i1 := ih h.2 lv d u p c 0 r Z AL hm st hp hd I hlv (by omega) hAL
    exact i1.mono (C' := 2 * lv + 3 + cQ sy gs 2 lv) (Nat.le_refl _) (by omega) (by omega)
  | case12 ul e p0 vis ih =>
    intro h lv d u p c z r Z AL hm st hp hd I hlv hz hAL
    obtain ⟨s1, s2, s3⟩ := st.p8
    have hm' : 4 + max (exw e) (mz sy pz p0 0).1 + (mz sy pz p0 0).2 ≤ c := hm
    have i1 := ih h.2.2 (lv + 1) d u p c 0 r Z AL (by show 4 + _ + _ ≤ c; omega) st hp hd I (by omega) (by omega) hAL
    have q1 := lwE (r := r) hk hp hd I h.2.1
    have w1 := wP_while (kp := kp) (fl := fl) (sy := sy) (pb := pb) (pa := pa) (u := ul) (e := e) (p := p0) (r := r) (Z := Z)
    have a1 : 3 * wF (fun r => evE kp sy r e) r Z ≤ 20 * (2 * lv + 6 + cE sy e) := by
      unfold lxP loP at *
      omega
    exact (i1.add (z := 0) a1).mono (C' := 2 * lv + 6 + cE sy e + cQ sy p0 0 (lv + 1)) (by omega) (by omega) (by omega)
  | case13 ul gs vis ih =>
    intro h lv d u p c z r Z AL hm st hp hd I hlv hz hAL
    have hm' : 4 + ((mz sy pz gs 3).1 + 2 * tmN gs) + (mz sy pz gs 3).2 ≤ c := hm
    have i1 := ih h.2.2 lv d u p c 0 r Z AL (by show 4 + _ + _ ≤ c; omega) st hp hd I hlv (by omega) hAL
    exact i1.mono (C' := 2 * lv + 4 + cQ sy gs 3 lv) (Nat.le_refl _) (by omega) (by omega)
  | case14 ul vis =>
    intro h lv d u p c z r Z AL hm st hp hd I hlv hz hAL
    left
    have e : wP kp fl sy pb pa (.div (.index ul) .null) 0 r Z = 0 + fkS (fun _ => []) Z := rfl
    have eC : cQ sy (.div (.index ul) .null) 0 lv = 2 * lv + 5 := rfl
    rw [e, eC, fS_nil]
    omega
  | case15 ul vis =>
    intro h lv d u p c z r Z AL hm st hp hd I hlv hz hAL
    left
    have e : wP kp fl sy pb pa (.div (.index ul) .result) 0 r Z = 0 + fkS (fun _ => []) Z := rfl
    have eC : cQ sy (.div (.index ul) .result) 0 lv = 2 * lv + 5 := rfl
    rw [e, eC, fS_nil]
    omega
  | case16 vis =>
    intro h lv d u p c z r Z AL hm st hp hd I hlv hz hAL
    left
    have e : wP kp fl sy pb pa .null 1 r Z = 0 + fkS (fun _ => []) Z := rfl
    rw [e, fS_nil]
    omega
  | case17 p0 ps vis ih1 ih2 =>
    intro h lv d u p c z r Z AL hm st hp hd I hlv hz hAL
    have hm' : 4 + (mz sy pz p0 0).1 + (mz sy pz p0 0).2 ≤ c ∧ mRw sy pz c ps := hm
    have w1 := wP_1 (kp := kp) (fl := fl) (sy := sy) (pb := pb) (pa := pa) (ps := ps) (r := r) (Z := Z) h.1
    have i1 := ih1 h.1 lv d u p c 0 r Z AL hm'.1 st hp hd I hlv (by omega) hAL
    have i2 := ih2 h.2 lv d u p c 0 r Z AL hm'.2 st hp hd I hlv (by omega) hAL
    exact (i1.two (z := 0) i2).mono (C' := cQ sy p0 0 lv + cQ sy ps 1 lv) w1 (Nat.le_refl _) (by omega)
  | case18 vis =>
    intro h lv d u p c z r Z AL hm st hp hd I hlv hz hAL
    left
    have e : wP kp fl sy pb pa .null 2 r Z = 0 + fkS (fun _ => []) Z := rfl
    rw [e, fS_nil]
    omega
  | case19 e p0 gs vis ih1 ih2 =>
    intro h lv d u p c z r Z AL hm st hp hd I hlv hz hAL
    obtain ⟨s1, s2, s3⟩ := st.p8
    have hm' : 4 + max (max (mz sy pz p0 0).1 (exw e)) (mz sy pz gs 2).1 + max (mz sy pz p0 0).2 (mz sy pz gs 2).2 ≤ c := hm
    have w1 := wP_2 (kp := kp) (fl := fl) (sy := sy) (pb := pb) (pa := pa) (e := e) (gs := gs) (r := r) (Z := Z) h.2.1
    have i1 := ih1 h.2.1 (lv + 2) d u p c 0 r Z AL (by show 4 + _ + _ ≤ c; omega) st hp hd I (by omega) (by omega) hAL
    have i2 := ih2 h.2.2 lv d u p c 0 r Z AL (by show 4 + _ + _ ≤ c; omega) st hp hd I hlv (by omega) hAL
    have q1 := lwE (r := r) hk hp hd I h.1
    have a1 : 3 * wF (fun r => evE kp sy r e) r Z ≤ 20 * (2 * lv + 3 + cE sy e) := by
      unfold lxP loP at *
      omega
    exact ((i1.two (z := 0) i2).add (z := 0) a1).mono (C' := 2 * lv + 3 + cE sy e + cQ sy p0 0 (lv + 2) + cQ sy gs 2 lv) (by omega) (by omega) (by omega)
  | case20 vis =>
    intro h lv d u p c z r Z AL hm st hp hd I hlv hz hAL
    left
    have e : wP kp fl sy pb pa .null 3 r Z = 0 + fkS (fun _ => []) Z := rfl
    rw [e, fS_nil]
    omega
  | case21 ul e c1 v p0 gs vis ih1 ih2 =>
    intro h lv d u p c z r Z AL hm st hp hd I hlv hz hAL
    obtain ⟨s1, s2, s3⟩ := st.p8
    have hm' : 4 + max (max (max (mz sy pz p0 0).1 (exw e)) (max (exw c1) (exw v))) (mz sy pz gs 3).1 + max (mz sy pz p0 0).2 (mz sy pz gs 3).2 ≤ c := hm
    have w1 := wP_3 (kp := kp) (fl := fl) (sy := sy) (pb := pb) (pa := pa) (u := ul) (e := e) (c := c1) (v := v) (gs := gs) (r := r) (Z := Z) h.2.2.2.1
    have i1 := ih1 h.2.2.2.1 (lv + 2) d u p c 0 r Z AL (by show 4 + _ + _ ≤ c; omega) st hp hd I (by omega) (by omega) hAL
    have i2 := ih2 h.2.2.2.2 lv d u p c 0 r Z AL (by show 4 + _ + _ ≤ c; omega) st hp hd I hlv (by omega) hAL
    have ge : 3 * wF (fun r => evE kp sy r e) r Z ≤ 20 * (if e = .null then 0 else cE sy e + 1) + lxP p := by
      rcases h.2.1 with rfl | he
      · have e0 : wF (fun r => evE kp sy r .null) r Z = 0 := wF_nil r Z
        rw [e0]
        omega
      · have q1 := lwE (r := r) hk hp hd I he
        rw [if_neg (shE_nn he)]
        omega
    have gc : 3 * (wF (fun r => evT kp sy r 8 c1) r Z + wF (fun r => evT kp sy r 2 v) r Z) ≤ 20 * (if c1 = .null then 4 else cE sy c1 + 1 + cE sy v) + 2 * loP p := by
      rcases h.2.2.1 with ⟨rfl, rfl⟩ | ⟨t1, t2, t3, t4⟩
      · have e0 : wF (fun r => evT kp sy r 8 .null) r Z = 0 := wF_nil r Z
        have e1 : wF (fun r => evT kp sy r 2 .null) r Z = 0 := wF_nil r Z
        rw [e0, e1]
        omega
      · have q1 := lwT (m := 8) (r := r) hk hp hd I t1 t2
        have q2 := lwT (m := 2) (r := r) hk hp hd I t3 t4
        rw [if_neg (thI_nn t1)]
        omega
    have a1 : 3 * (wF (fun r => evE kp sy r e) r Z + (wF (fun r => evT kp sy r 8 c1) r Z + wF (fun r => evT kp sy r 2 v) r Z)) ≤ 20 * (2 * lv + 3 + ((if e = .null then 0 else cE sy e + 1) + if c1 = .null then 4 else cE sy c1 + 1 + cE sy v)) := by
      unfold lxP loP at *
      omega
    exact ((i1.two (z := 0) i2).add (z := 0) a1).mono (C' := 2 * lv + 3 + ((if e = .null then 0 else cE sy e + 1) + if c1 = .null then 4 else cE sy c1 + 1 + cE sy v) + cQ sy p0 0 (lv + 2) + cQ sy gs 3 lv) (by omega) (by omega) (by omega)
  | case22 A md vis h1 h2 h3 h4 h5 h6 h7 h8 h9 h10 h11 h12 h13 h14 h15 h16 h17 h18 h19 h20 h21 =>
    intro h
    unfold rdQ at h
    split at h
    · exact (h1 _ _ _ _ rfl rfl).elim
    · exact (h2 _ _ _ rfl rfl).elim
    · exact (h3 _ _ _ rfl rfl).elim
    · exact (h4 _ _ _ rfl rfl).elim
    · exact (h5 _ _ _ rfl rfl).elim
    · exact (h6 _ _ rfl rfl).elim
    · exact (h7 _ _ _ _ _ rfl rfl).elim
    · exact (h8 _ _ _ rfl rfl).elim
    · exact (h9 _ _ _ rfl rfl).elim
    · exact (h10 _ _ _ _ _ rfl rfl).elim
    · exact (h11 _ _ rfl rfl).elim
    · exact (h12 _ _ _ rfl rfl).elim
    · exact (h13 _ _ rfl rfl).elim
    · exact (h14 _ rfl rfl).elim
    · exact (h15 _ rfl rfl).elim
    · exact (h16 rfl rfl).elim
    · exact (h17 _ _ rfl rfl).elim
    · exact (h18 rfl rfl).elim
    · exact (h19 _ _ _ rfl rfl).elim
    · exact (h20 rfl rfl).elim
    · exact (h21 _ _ _ _ _ _ rfl rfl).elim
    · exact h.elim
end
