/-! rows, lines: programs -/
theorem sNk_app (A B : List (List Ev)) : sNk (A ++ B) = sNk A + sNk B := by
  induction A with
  | nil => exact (Nat.zero_add _).symm
  | cons E r ih => show nk E + sNk (r ++ B) = nk E + sNk r + sNk B; rw [ih]; omega
theorem sNk_c4 {E : Nat → List Ev} {B : Nat} : ∀ m, (∀ k, k < m → 4 * nk (E k) ≤ B) → 4 * sNk (catN (fun k => [E k]) m) ≤ m * B
  | 0, _ => Nat.zero_le _
  | m + 1, h => by
    have h1 := sNk_c4 m (fun k hk => h k (by omega))
    have h2 := h m (by omega)
    show 4 * sNk (catN (fun k => [E k]) m ++ [E m]) ≤ _
    rw [sNk_app, Nat.add_mul]
    show 4 * (sNk (catN (fun k => [E k]) m) + (nk (E m) + 0)) ≤ _
    omega
theorem sNk_brs {kp : Nat → Bool} {fl : Bool} {sy : List Sym} {pb : Nat → Nat} {pa : List (List Nat)} {lv : Nat} {r : Nv} {vis : List Nat} : ∀ ps, rdQ sy ps 1 vis → 4 * sNk (brs kp fl sy pb pa ps r) ≤ 9 * cQ sy ps 1 lv := by
  intro ps
  induction ps using mRw.induct with
  | case1 p ps ih =>
    intro h
    have i1 := ih h.2
    have i2 := nk_9 (kp := kp) (fl := fl) (pb := pb) (pa := pa) (lv := lv) (r := r) h.1
    show 4 * (nk (evP kp fl sy pb pa p 0 r) + sNk (brs kp fl sy pb pa ps r)) ≤ 9 * (cQ sy p 0 lv + cQ sy ps 1 lv)
    omega
  | case2 A h =>
    intro _
    have : brs kp fl sy pb pa A r = [] := by
      unfold brs
      split
      · exact (h _ _ rfl).elim
      · rfl
    rw [this]
    exact Nat.zero_le _
theorem mxN_le {f : Nat → Nat} {B : Nat} : ∀ m, (∀ k, k < m → f k ≤ B) → mxN f m ≤ B
  | 0, _ => Nat.zero_le _
  | m + 1, h => Nat.max_le.mpr ⟨mxN_le m (fun k hk => h k (by omega)), h m (by omega)⟩
section
variable {sy : List Sym} {pb : Nat → Nat} {pa : List (List Nat)}
theorem z_18 : ∀ (A : Tm) (md : Nat) (vis : List Nat), rdQ sy A md vis → ∀ lv r, zP sy pb pa A md r ≤ 18 * cQ sy A md lv := by
  intro A md vis
  induction A, md, vis using rdQ.induct with
  | case1 u s c p vis ih =>
    intro h lv r
    have i1 := ih h.2 lv r
    show zP sy pb pa p 0 r ≤ 18 * (2 * lv + 4 + (if 0 < szO sy s then 3 else 0) + cN sy s c + cQ sy p 0 lv)
    omega
  | case2 u v e vis => exact fun _ _ _ => Nat.zero_le _
  | case3 u v e vis => exact fun _ _ _ => Nat.zero_le _
  | case4 u v e vis => exact fun _ _ _ => Nat.zero_le _
  | case5 u p as vis => exact fun _ _ _ => Nat.zero_le _
  | case6 u ps vis ih =>
    intro h lv r
    have i1 := ih h.2 (lv + 1) r
    show zP sy pb pa ps 1 r ≤ 18 * (2 * lv + 4 + cQ sy ps 1 (lv + 1))
    omega
  | case7 u s e1 e2 p vis ih =>
    intro h lv r
    have i1 := ih h.2.2.2 (lv + 1) r
    show zP sy pb pa p 0 r ≤ 18 * (2 * lv + 8 + ncs sy s + cE sy e1 + cE sy e2 + cQ sy p 0 (lv + 1))
    omega
  | case8 u z0 ps vis ih =>
    intro h lv r
    have i1 := ih h.2 (lv + 1) r
    have i2 := sNk_brs (kp := kpT) (fl := false) (pb := pb) (pa := pa) (lv := lv + 1) (r := r) ps h.2
    show max (sNk (brs kpT false sy pb pa ps r)) (zP sy pb pa ps 1 r) ≤ 18 * (2 * lv + 4 + cQ sy ps 1 (lv + 1))
    omega
  | case9 u z0 ps vis ih =>
    intro h lv r
    have i1 := ih h.2 (lv + 1) r
    have i2 := sNk_brs (kp := kpT) (fl := false) (pb := pb) (pa := pa) (lv := lv + 1) (r := r) ps h.2
    show max (sNk (brs kpT false sy pb pa ps r)) (zP sy pb pa ps 1 r) ≤ 18 * (2 * lv + 7 + cQ sy ps 1 (lv + 1))
    omega
  | case10 u s b m p vis ih =>
    intro h lv r
    have i2 := sNk_c4 (E := fun k => evP kpT false sy pb pa p 0 (upE r s (nI (b + k)))) (B := 9 * cQ sy p 0 (lv + 1)) m (fun k _ => nk_9 h.2.2.2)
    have i3 : m * (9 * cQ sy p 0 (lv + 1)) ≤ 8 * (9 * cQ sy p 0 (lv + 1)) := Nat.mul_le_mul_right _ h.2.2.1
    have i4 := mxN_le (f := fun k => zP sy pb pa p 0 (upE r s (nI (b + k)))) (B := 18 * cQ sy p 0 (lv + 1)) m (fun k _ => ih h.2.2.2 (lv + 1) _)
    show max (sNk (catN (fun k => [evP kpT false sy pb pa p 0 (upE r s (nI (b + k)))]) m)) (mxN (fun k => zP sy pb pa p 0 (upE r s (nI (b + k)))) m) ≤ 18 * (2 * lv + 10 + ncs sy s + cQ sy p 0 (lv + 1))
    omega
  | case11 u gs vis ih =>
    intro h lv r
    have i1 := ih h.2 lv r
    show zP sy pb pa gs 2 r ≤ 18 * (2 * lv + 3 + cQ sy gs 2 lv)
    omega
  | case12 u e p vis ih =>
    intro h lv r
    have i1 := ih h.2.2 (lv + 1) r
    show zP sy pb pa p 0 r ≤ 18 * (2 * lv + 6 + cE sy e + cQ sy p 0 (lv + 1))
    omega
  | case13 u gs vis ih =>
    intro h lv r
    have i1 := ih h.2.2 lv r
    show zP sy pb pa gs 3 r ≤ 18 * (2 * lv + 4 + cQ sy gs 3 lv)
    omega
  | case14 u vis => exact fun _ _ _ => Nat.zero_le _
  | case15 u vis => exact fun _ _ _ => Nat.zero_le _
  | case16 vis => exact fun _ _ _ => Nat.zero_le _
  | case17 p ps vis ih1 ih2 =>
    intro h lv r
    have i1 := ih1 h.1 lv r
    have i2 := ih2 h.2 lv r
    show max (zP sy pb pa p 0 r) (zP sy pb pa ps 1 r) ≤ 18 * (cQ sy p 0 lv + cQ sy ps 1 lv)
    omega
  | case18 vis => exact fun _ _ _ => Nat.zero_le _
  | case19 e p gs vis ih1 ih2 =>
    intro h lv r
    have i1 := ih1 h.2.1 (lv + 2) r
    have i2 := ih2 h.2.2 lv r
    show max (zP sy pb pa p 0 r) (zP sy pb pa gs 2 r) ≤ 18 * (2 * lv + 3 + cE sy e + cQ sy p 0 (lv + 2) + cQ sy gs 2 lv)
    omega
  | case20 vis => exact fun _ _ _ => Nat.zero_le _
  | case21 u e c v p gs vis ih1 ih2 =>
    intro h lv r
    have i1 := ih1 h.2.2.2.1 (lv + 2) r
    have i2 := ih2 h.2.2.2.2 lv r
    show max (zP sy pb pa p 0 r) (zP sy pb pa gs 3 r) ≤ 18 * (2 * lv + 3 + cGd sy e c v + cQ sy p 0 (lv + 2) + cQ sy gs 3 lv)
    omega
  | case22 A md vis h1 h2 h3 h4 h5 h6 h7 h8 h9 h10 h11 h12 h13 h14 h15 h16 h17 h18 h19 h20 h21 =>
    intro h
    unfold rdQ at h
    split at h
    · exact (h1 _ _ _ _ rfl rfl).elim
    · exact (h2 _ _ _ rfl rfl).elim
    · exact (h3 _ _ _ rfl rfl).elim
    · exact (h4 _ _ _ rfl rfl).elim
    · exact (h5 _ _ _ rfl rfl).elim
    · exact (h6 _ _ rfl rfl).elim
    · exact (h7 _ _ _ _ _ rfl rfl).elim
    · exact (h8 _ _ _ rfl rfl).elim
    · exact (h9 _ _ _ rfl rfl).elim
    · exact (h10 _ _ _ _ _ rfl rfl).elim
    · exact (h11 _ _ rfl rfl).elim
    · exact (h12 _ _ _ rfl rfl).elim
    · exact (h13 _ _ rfl rfl).elim
    · exact (h14 _ rfl rfl).elim
    · exact (h15 _ rfl rfl).elim
    · exact (h16 rfl rfl).elim
    · exact (h17 _ _ rfl rfl).elim
    · exact (h18 rfl rfl).elim
    · exact (h19 _ _ _ rfl rfl).elim
    · exact (h20 rfl rfl).elim
    · exact (h21 _ _ _ _ _ _ rfl rfl).elim
    · exact h.elim
end
/-! lines of offences -/
section
variable {kp : Nat → Bool} {fl mk : Bool} {sy : List Sym} {pb : Nat → Nat} {pa : List (List Nat)} {lk : List (Nat × Nat)} {w : Option Nat}
theorem wof_l {u s m x : Nat} (hu : u ≤ 3000) (h : x ∈ wof sy lk w u s m) : x ≤ 3000 := by
  unfold wof at h
  split at h
  · rw [List.mem_singleton] at h; omega
  · cases h
theorem wfAo_l {u x : Nat} (hu : u ≤ 3000) : ∀ (qs : List Nat) (as : Tm), x ∈ wfA_o sy pb lk w u qs as → x ≤ 3000 := by
  intro qs as
  induction qs, as using lvA.induct with
  | case1 q qs a as ih =>
    intro h
    have h' : x ∈ (if srO sy q = 3 then [] else wof sy lk w u (nmT a) (pb q)) ++ wfA_o sy pb lk w u qs as := h
    rw [List.mem_append] at h'
    rcases h' with h' | h'
    · split at h'
      · cases h'
      · exact wof_l hu h'
    · exact ih h'
  | case2 qs as h1 =>
    intro h
    have : wfA_o sy pb lk w u qs as = [] := by
      unfold wfA_o
      split
      · exact (h1 _ _ _ _ rfl rfl).elim
      · rfl
    rw [this] at h
    cases h
theorem if_l {b : Bool} {u x : Nat} (hu : u ≤ 3000) (h : x ∈ if b = true then [u] else []) : x ≤ 3000 := by
  split at h
  · rw [List.mem_singleton] at h; omega
  · cases h
theorem of_line {x : Nat} : ∀ (A : Tm) (md : Nat) (vis : List Nat), rdQ sy A md vis → ∀ r, x ∈ offP kp fl mk sy pb pa lk w A md r → x ≤ 3000 := by
  intro A md vis
  induction A, md, vis using rdQ.induct with
  | case1 u s c p vis ih => exact fun h r hx => ih h.2 r hx
  | case2 u v e vis => exact fun _ _ hx => absurd hx List.not_mem_nil
  | case3 u v e vis => exact fun h r hx => wof_l h.1 (show x ∈ wof sy lk w u (nmT v) 4 from hx)
  | case4 u v e vis => exact fun h r hx => wof_l h.1 (show x ∈ wof sy lk w u (nmT v) 8 from hx)
  | case5 u p as vis =>
    intro h r hx
    have hx' : x ∈ wfA_o sy pb lk w u (pa.getD p []) as ++ (if prs (gvA sy pb r (pa.getD p []) as) then [u] else []) := hx
    rcases List.mem_append.mp hx' with q | q
    · exact wfAo_l h.1 _ _ q
    · exact if_l h.1 q
  | case6 u ps vis ih => exact fun h r hx => ih h.2 r hx
  | case7 u s e1 e2 p vis ih => exact fun h r hx => ih h.2.2.2 r hx
  | case8 u z0 ps vis ih =>
    intro h r hx
    have hx' : x ∈ offP kp fl mk sy pb pa lk w ps 1 r ++ (if clB (mkF mk z0) [] (brs kp fl sy pb pa ps r) then [u] else []) := hx
    rcases List.mem_append.mp hx' with q | q
    · exact ih h.2 r q
    · exact if_l h.1.1 q
  | case9 u z0 ps vis ih =>
    intro h r hx
    have hx' : x ∈ offP kp fl mk sy pb pa lk w ps 1 r ++ (if clB (mkF mk z0) [] (brs kp fl sy pb pa ps r) then [u] else []) := hx
    rcases List.mem_append.mp hx' with q | q
    · exact ih h.2 r q
    · exact if_l h.1.1 q
  | case10 u s b m p vis ih =>
    intro h r hx
    have hx' : x ∈ catN (fun k => offP kp fl mk sy pb pa lk w p 0 (upE r s (nI (b + k)))) m ++ (if clB (mkF mk s) [] (catN (fun k => [evP kp fl sy pb pa p 0 (upE r s (nI (b + k)))]) m) then [u] else []) := hx
    rcases List.mem_append.mp hx' with q | q
    · obtain ⟨k, k1, k2⟩ := (catN_i m).mp q
      exact ih h.2.2.2 _ k2
    · exact if_l h.1.1 q
  | case11 u gs vis ih => exact fun h r hx => ih h.2 r hx
  | case12 u e p vis ih => exact fun h r hx => ih h.2.2 r hx
  | case13 u gs vis ih => exact fun h r hx => ih h.2.2 r hx
  | case14 u vis => exact fun _ _ hx => absurd hx List.not_mem_nil
  | case15 u vis => exact fun _ _ hx => absurd hx List.not_mem_nil
  | case16 vis => exact fun _ _ hx => absurd hx List.not_mem_nil
  | case17 p ps vis ih1 ih2 =>
    intro h r hx
    rcases List.mem_append.mp (show x ∈ offP kp fl mk sy pb pa lk w p 0 r ++ offP kp fl mk sy pb pa lk w ps 1 r from hx) with q | q
    · exact ih1 h.1 r q
    · exact ih2 h.2 r q
  | case18 vis => exact fun _ _ hx => absurd hx List.not_mem_nil
  | case19 e p gs vis ih1 ih2 =>
    intro h r hx
    rcases List.mem_append.mp (show x ∈ offP kp fl mk sy pb pa lk w p 0 r ++ offP kp fl mk sy pb pa lk w gs 2 r from hx) with q | q
    · exact ih1 h.2.1 r q
    · exact ih2 h.2.2 r q
  | case20 vis => exact fun _ _ hx => absurd hx List.not_mem_nil
  | case21 u e c v p gs vis ih1 ih2 =>
    intro h r hx
    rcases List.mem_append.mp (show x ∈ wofC sy lk w u c ++ offP kp fl mk sy pb pa lk w p 0 r ++ offP kp fl mk sy pb pa lk w gs 3 r from hx) with q | q
    · rcases List.mem_append.mp q with q | q
      · unfold wofC at q
        split at q
        · cases q
        · exact wof_l h.1 q
      · exact ih1 h.2.2.2.1 r q
    · exact ih2 h.2.2.2.2 r q
  | case22 A md vis h1 h2 h3 h4 h5 h6 h7 h8 h9 h10 h11 h12 h13 h14 h15 h16 h17 h18 h19 h20 h21 =>
    intro h
    unfold rdQ at h
    split at h
    · exact (h1 _ _ _ _ rfl rfl).elim
    · exact (h2 _ _ _ rfl rfl).elim
    · exact (h3 _ _ _ rfl rfl).elim
    · exact (h4 _ _ _ rfl rfl).elim
    · exact (h5 _ _ _ rfl rfl).elim
    · exact (h6 _ _ rfl rfl).elim
    · exact (h7 _ _ _ _ _ rfl rfl).elim
    · exact (h8 _ _ _ rfl rfl).elim
    · exact (h9 _ _ _ rfl rfl).elim
    · exact (h10 _ _ _ _ _ rfl rfl).elim
    · exact (h11 _ _ rfl rfl).elim
    · exact (h12 _ _ _ rfl rfl).elim
    · exact (h13 _ _ rfl rfl).elim
    · exact (h14 _ rfl rfl).elim
    · exact (h15 _ rfl rfl).elim
    · exact (h16 rfl rfl).elim
    · exact (h17 _ _ rfl rfl).elim
    · exact (h18 rfl rfl).elim
    · exact (h19 _ _ _ rfl rfl).elim
    · exact (h20 rfl rfl).elim
    · exact (h21 _ _ _ _ _ _ rfl rfl).elim
    · exact h.elim
end
/-! programs -/
theorem ftA_k {f : Nat → Bool} {k : Nat} : ∀ n, ftA f n = true → k < n → f k = true
  | 0, _, h => absurd h (Nat.not_lt_zero _)
  | n + 1, h, hk => by
    have h' : (ftA f n && f n) = true := h
    rw [Bool.and_eq_true] at h'
    by_cases e : k = n
    · rw [e]; exact h'.2
    · exact ftA_k n h'.1 (by omega)
theorem arL_g {sy : List Sym} {v : List Nat} (h : ∀ s ∈ v, srO sy s ≤ 1) : arL sy v [] := by
  intro a ha h2
  have := h a (fnd_in ha).1
  have e : srO sy a = 0 ∨ srO sy a = 1 := by omega
  rcases e with e | e <;> (rw [e] at h2; cases h2)
section
variable {sy : List Sym} {pa : List (List Nat)} {bs : List Tm} {lk : List (Nat × Nat)} {rt : List (Nat × Tm)} {vis : List Nat} {L : List PL} {pz : List (Nat × Nat)}
theorem pa_6 (hl : bs.length = pa.length) (G : sgG 3001 (pa, bs, lk, rt, sy, vis, L)) (p : Nat) : (pa.getD p []).length ≤ 6 := by
  obtain ⟨g1, -⟩ := G sy (sX.rf _)
  dsimp only at g1
  rw [List.getD_eq_getElem?_getD]
  by_cases h : p < pa.length
  · obtain ⟨v, f, n, -, b2, b3, -⟩ := g1 p bs[p] (List.getElem?_eq_getElem (by omega))
    rw [b2]
    show (List.range' f n).length ≤ 6
    rw [List.length_range']
    exact b3
  · rw [List.getElem?_eq_none (by omega)]
    exact Nat.zero_le _
theorem pa_6k (hl : bs.length = pa.length) (G : sgG 3001 (pa, bs, lk, rt, sy, vis, L)) (k p : Nat) : ((pa.take k).getD p []).length ≤ 6 := by
  rw [List.getD_eq_getElem?_getD, List.getElem?_take]
  split
  · rw [← List.getD_eq_getElem?_getD]; exact pa_6 hl G p
  · exact Nat.zero_le _
/-- all bounds of the bodies -/
theorem bd_body (hl : bs.length = pa.length) (G : sgG 3001 (pa, bs, lk, rt, sy, vis, L)) (hz : pzT sy pa bs pz) (hf : fts sy pz bs.length rt = true) {pb pb' : Nat → Nat} {k : Nat} {B : Tm} (hB : bs[k]? = some B) :
    yP (kpC sy) true sy pb (pa.take k) B 0 r0 ≤ 20000 ∧ nk (evP kpT false sy pb' (pa.take k) B 0 r0) ≤ 60000 ∧ zP sy pb' (pa.take k) B 0 r0 ≤ 60000 := by
  obtain ⟨g1, -⟩ := G sy (sX.rf _)
  dsimp only at g1
  obtain ⟨v, f, n, b1, b2, b3, b4, b5⟩ := g1 k B hB
  have hk := gt_lt hB
  rw [fts, Bool.and_eq_true] at hf
  have f1 := ftA_k bs.length hf.1 hk
  rw [ft1, decide_eq_true_eq, hz k B hB] at f1
  dsimp only at f1
  refine ⟨?_, ?_, ?_⟩
  · refine y_20000 (pz := pz) (lv := 1) (AL := List.range' f n ++ []) (fun s hs => by rw [kpC, hs]; rfl) (pa_6k hl G k) b4 (arL_g b1).see ?_ (by omega)
    rw [List.append_nil, List.length_range']
    exact b5
  · have := nk_9 (kp := kpT) (fl := false) (pb := pb') (pa := pa.take k) (lv := 1) (r := r0) b4
    omega
  · have := z_18 (pb := pb') (pa := pa.take k) B 0 _ b4 1 r0
    omega
/-- all bounds of the roots -/
theorem bd_root (hl : bs.length = pa.length) (G : sgG 3001 (pa, bs, lk, rt, sy, vis, L)) (hf : fts sy pz bs.length rt = true) (hr : ∀ x ∈ rt, x.1 ≤ 5) {pb pb' : Nat → Nat} {k : Nat} {x : Nat × Tm} (hx : rt.find? (fun x => x.1 == k) = some x) :
    yP (kpC sy) true sy pb pa x.2 0 r0 ≤ 20000 ∧ zP sy pb' pa x.2 0 r0 ≤ 60000 := by
  obtain ⟨-, g2⟩ := G sy (sX.rf _)
  dsimp only at g2
  obtain ⟨v, lv, b1, b4, b5⟩ := g2 k x hx
  have hk : k ≤ 5 := by
    have h1 := hr x (List.mem_of_find?_eq_some hx)
    have h2 := List.find?_some hx
    have h3 : x.1 = k := beq_iff_eq.mp h2
    omega
  rw [fts, Bool.and_eq_true] at hf
  have f1 := ftA_k 6 hf.2 (by omega : k < 6)
  rw [ft2, hx] at f1
  dsimp only at f1
  rw [decide_eq_true_eq] at f1
  refine ⟨?_, ?_⟩
  · exact y_20000 (pz := pz) (lv := lv) (AL := []) (fun s hs => by rw [kpC, hs]; rfl) (pa_6 hl G) b4 (arL_g b1) (by show _ + 2 * 0 ≤ _; omega) (by omega)
  · have := z_18 (pb := pb') (pa := pa) x.2 0 _ b4 lv r0
    omega
/-- all lines of offences -/
theorem ln_all (G : sgG 3001 (pa, bs, lk, rt, sy, vis, L)) {kp : Nat → Bool} {fl mk : Bool} {u : Nat} (h : u ∈ offB kp fl mk sy pa bs lk bs.length ++ offR kp fl mk sy pa bs lk rt 6) : u < 100000 := by
  obtain ⟨g1, g2⟩ := G sy (sX.rf _)
  dsimp only at g1 g2
  have hB : ∀ n, n ≤ bs.length → u ∈ offB kp fl mk sy pa bs lk n → u < 100000 := by
    intro n
    induction n with
    | zero => exact fun _ h => absurd h List.not_mem_nil
    | succ n ih =>
      intro hn h
      rcases List.mem_append.mp (show u ∈ offB kp fl mk sy pa bs lk n ++ offP kp fl mk sy (pbF kp fl sy pa bs n) (pa.take n) lk none (bs.getD n .null) 0 r0 from h) with q | q
      · exact ih (by omega) q
      · have hb : bs[n]? = some bs[n] := List.getElem?_eq_getElem (by omega)
        rw [List.getD_eq_getElem?_getD, hb] at q
        obtain ⟨v, f, n', b1, b2, b3, b4, b5⟩ := g1 n _ hb
        have := of_line _ 0 _ b4 r0 q
        omega
  have hR : ∀ n, u ∈ offR kp fl mk sy pa bs lk rt n → u < 100000 := by
    intro n
    induction n with
    | zero => exact fun h => absurd h List.not_mem_nil
    | succ n ih =>
      intro h
      rcases List.mem_append.mp (show u ∈ offR kp fl mk sy pa bs lk rt n ++ ofR kp fl mk sy pa bs lk rt n from h) with q | q
      · exact ih q
      · unfold ofR at q
        split at q
        · cases q
        · rename_i x hx
          obtain ⟨v, lv, b1, b4, b5⟩ := g2 n x hx
          have := of_line _ 0 _ b4 r0 q
          omega
  rcases List.mem_append.mp h with q | q
  · exact hB _ (Nat.le_refl _) q
  · exact hR _ q
end
