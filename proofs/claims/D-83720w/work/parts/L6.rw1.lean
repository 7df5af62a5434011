/-! rows: processes -/
section
variable {kp : Nat → Bool} {fl : Bool} {sy : List Sym} {pb : Nat → Nat} {pa : List (List Nat)}
theorem nk_y : ∀ (A : Tm) (md : Nat) (vis : List Nat), rdQ sy A md vis → ∀ r, nk (evP kp fl sy pb pa A md r) ≤ yP kp fl sy pb pa A md r := by
  intro A md vis
  induction A, md, vis using rdQ.induct with
  | case1 u s c p vis ih =>
    intro h r
    refine Nat.le_trans ?_ (ih h.2 r)
    show nk (if fl then flN (fun t => decide (t < s) || decide (s + c ≤ t)) (evP kp fl sy pb pa p 0 r) else evP kp fl sy pb pa p 0 r) ≤ _
    split
    · exact nk_le (fun k hk => ((flN_k _ _ _).mp hk).1)
    · exact Nat.le_refl _
  | case2 => exact fun _ _ => Nat.le_refl _
  | case3 => exact fun _ _ => Nat.le_refl _
  | case4 => exact fun _ _ => Nat.le_refl _
  | case5 => exact fun _ _ => Nat.le_refl _
  | case6 u ps vis ih => exact fun h r => ih h.2 r
  | case7 u s e1 e2 p vis ih =>
    intro h r
    have h1 := ih h.2.2.2 r
    have h2 := nk_app (evE kp sy r e1 ++ evE kp sy r e2) (evP kp fl sy pb pa p 0 r)
    show nk (evE kp sy r e1 ++ evE kp sy r e2 ++ evP kp fl sy pb pa p 0 r) ≤ nk (evE kp sy r e1 ++ evE kp sy r e2) + yP kp fl sy pb pa p 0 r
    omega
  | case8 u z ps vis ih => exact fun h r => ih h.2 r
  | case9 u z ps vis ih => exact fun h r => ih h.2 r
  | case10 u s b m p vis ih =>
    intro h r
    show nk (catN (fun k => evP kp fl sy pb pa p 0 (upE r s (nI (b + k)))) m) ≤ mxN (fun k => nk (catN (fun k => evP kp fl sy pb pa p 0 (upE r s (nI (b + k)))) k) + yP kp fl sy pb pa p 0 (upE r s (nI (b + k)))) m
    obtain ⟨m, rfl⟩ : ∃ n, m = n + 1 := ⟨m - 1, by have := h.2.1; omega⟩
    refine Nat.le_trans ?_ (mxN_ge (f := fun k => nk (catN (fun k => evP kp fl sy pb pa p 0 (upE r s (nI (b + k)))) k) + yP kp fl sy pb pa p 0 (upE r s (nI (b + k)))) (Nat.lt_succ_self m))
    have h1 := ih h.2.2.2 (upE r s (nI (b + m)))
    have h2 := nk_app (catN (fun k => evP kp fl sy pb pa p 0 (upE r s (nI (b + k)))) m) (evP kp fl sy pb pa p 0 (upE r s (nI (b + m))))
    show nk (catN (fun k => evP kp fl sy pb pa p 0 (upE r s (nI (b + k)))) m ++ evP kp fl sy pb pa p 0 (upE r s (nI (b + m)))) ≤ _
    omega
  | case11 u gs vis ih => exact fun h r => ih h.2 r
  | case12 u e p vis ih =>
    intro h r
    have h1 := ih h.2.2 r
    have h2 := nk_app (evE kp sy r e) (evP kp fl sy pb pa p 0 r)
    show nk (evE kp sy r e ++ evP kp fl sy pb pa p 0 r) ≤ nk (evE kp sy r e) + yP kp fl sy pb pa p 0 r
    omega
  | case13 u gs vis ih => exact fun h r => ih h.2.2 r
  | case14 => exact fun _ _ => Nat.zero_le _
  | case15 => exact fun _ _ => Nat.zero_le _
  | case16 => exact fun _ _ => Nat.zero_le _
  | case17 p ps vis ih1 ih2 =>
    intro h r
    have h1 := ih2 h.2 r
    have h2 := nk_app (evP kp fl sy pb pa p 0 r) (evP kp fl sy pb pa ps 1 r)
    show nk (evP kp fl sy pb pa p 0 r ++ evP kp fl sy pb pa ps 1 r) ≤ max (yP kp fl sy pb pa p 0 r) (nk (evP kp fl sy pb pa p 0 r) + yP kp fl sy pb pa ps 1 r)
    omega
  | case18 => exact fun _ _ => Nat.zero_le _
  | case19 e p gs vis ih1 ih2 =>
    intro h r
    have h1 := ih2 h.2.2 r
    have h2 := nk_app (evE kp sy r e ++ evP kp fl sy pb pa p 0 r) (evP kp fl sy pb pa gs 2 r)
    show nk (evE kp sy r e ++ evP kp fl sy pb pa p 0 r ++ evP kp fl sy pb pa gs 2 r) ≤ max (nk (evE kp sy r e) + yP kp fl sy pb pa p 0 r) (nk (evE kp sy r e ++ evP kp fl sy pb pa p 0 r) + yP kp fl sy pb pa gs 2 r)
    omega
  | case20 => exact fun _ _ => Nat.zero_le _
  | case21 u e c v p gs vis ih1 ih2 =>
    intro h r
    have h1 := ih2 h.2.2.2.2 r
    have h2 := nk_app (evE kp sy r e ++ (evT kp sy r 8 c ++ evT kp sy r 2 v) ++ evP kp fl sy pb pa p 0 r) (evP kp fl sy pb pa gs 3 r)
    show nk (evE kp sy r e ++ (evT kp sy r 8 c ++ evT kp sy r 2 v) ++ evP kp fl sy pb pa p 0 r ++ evP kp fl sy pb pa gs 3 r) ≤ max (nk (evE kp sy r e ++ (evT kp sy r 8 c ++ evT kp sy r 2 v)) + yP kp fl sy pb pa p 0 r) (nk (evE kp sy r e ++ (evT kp sy r 8 c ++ evT kp sy r 2 v) ++ evP kp fl sy pb pa p 0 r) + yP kp fl sy pb pa gs 3 r)
    omega
  | case22 A md vis h1 h2 h3 h4 h5 h6 h7 h8 h9 h10 h11 h12 h13 h14 h15 h16 h17 h18 h19 h20 h21 =>
    intro h
    unfold rdQ at h
    split at h
    · exact (h1 _ _ _ _ rfl rfl).elim
    · exact (h2 _ _ _ rfl rfl).elim
    · exact (h3 _ _ _ rfl rfl).elim
    · exact (h4 _ _ _ rfl rfl).elim
    · exact (h5 _ _ _ rfl rfl).elim
    · exact (h6 _ _ rfl rfl).elim
    · exact (h7 _ _ _ _ _ rfl rfl).elim
    · exact (h8 _ _ _ rfl rfl).elim
    · exact (h9 _ _ _ rfl rfl).elim
    · exact (h10 _ _ _ _ _ rfl rfl).elim
    · exact (h11 _ _ rfl rfl).elim
    · exact (h12 _ _ _ rfl rfl).elim
    · exact (h13 _ _ rfl rfl).elim
    · exact (h14 _ rfl rfl).elim
    · exact (h15 _ rfl rfl).elim
    · exact (h16 rfl rfl).elim
    · exact (h17 _ _ rfl rfl).elim
    · exact (h18 rfl rfl).elim
    · exact (h19 _ _ _ rfl rfl).elim
    · exact (h20 rfl rfl).elim
    · exact (h21 _ _ _ _ _ _ rfl rfl).elim
    · exact h.elim
variable (kp fl sy pb pa)
/-- the rows of a process, here and in all contexts -/
def wP (A : Tm) (md : Nat) (r : Nv) (Z : List (List Nv)) : Nat := yP kp fl sy pb pa A md r + fkS (evP kp fl sy pb pa A md) Z
variable {kp fl sy pb pa}
theorem wP_dec {u s c : Nat} {p : Tm} {r : Nv} {Z : List (List Nv)} : wP kp fl sy pb pa (.div (.index u) (.rem (.elem (.index s) (.index c)) p)) 0 r Z ≤ wP kp fl sy pb pa p 0 r Z := by
  refine Nat.add_le_add (Nat.le_refl _) (fS_mo (fun r k hk => ?_) Z)
  have hk' : k ∈ kys (if fl then flN (fun t => decide (t < s) || decide (s + c ≤ t)) (evP kp fl sy pb pa p 0 r) else evP kp fl sy pb pa p 0 r) := hk
  split at hk'
  · exact ((flN_k _ _ _).mp hk').1
  · exact hk'
theorem wP_1 {p ps : Tm} {vis : List Nat} {r : Nv} {Z : List (List Nv)} (h : rdQ sy p 0 vis) : wP kp fl sy pb pa (.elem p ps) 1 r Z ≤ wP kp fl sy pb pa p 0 r Z + wP kp fl sy pb pa ps 1 r Z := by
  have h1 := nk_y (kp := kp) (fl := fl) (pb := pb) (pa := pa) p 0 vis h r
  have h2 := fS_app (evP kp fl sy pb pa p 0) (evP kp fl sy pb pa ps 1) Z
  show max (yP kp fl sy pb pa p 0 r) (nk (evP kp fl sy pb pa p 0 r) + yP kp fl sy pb pa ps 1 r) + fkS (fun r => evP kp fl sy pb pa p 0 r ++ evP kp fl sy pb pa ps 1 r) Z ≤ (yP kp fl sy pb pa p 0 r + fkS (evP kp fl sy pb pa p 0) Z) + (yP kp fl sy pb pa ps 1 r + fkS (evP kp fl sy pb pa ps 1) Z)
  omega
theorem wP_2 {e p gs : Tm} {vis : List Nat} {r : Nv} {Z : List (List Nv)} (h : rdQ sy p 0 vis) : wP kp fl sy pb pa (.elem (.elem e p) gs) 2 r Z ≤ wF (fun r => evE kp sy r e) r Z + wP kp fl sy pb pa p 0 r Z + wP kp fl sy pb pa gs 2 r Z := by
  have h1 := nk_y (kp := kp) (fl := fl) (pb := pb) (pa := pa) p 0 vis h r
  have h0 := nk_app (evE kp sy r e) (evP kp fl sy pb pa p 0 r)
  have h2 := fS_app (fun r => evE kp sy r e ++ evP kp fl sy pb pa p 0 r) (evP kp fl sy pb pa gs 2) Z
  have h3 := fS_app (fun r => evE kp sy r e) (evP kp fl sy pb pa p 0) Z
  show max (nk (evE kp sy r e) + yP kp fl sy pb pa p 0 r) (nk (evE kp sy r e ++ evP kp fl sy pb pa p 0 r) + yP kp fl sy pb pa gs 2 r) + fkS (fun r => evE kp sy r e ++ evP kp fl sy pb pa p 0 r ++ evP kp fl sy pb pa gs 2 r) Z ≤ (nk (evE kp sy r e) + fkS (fun r => evE kp sy r e) Z) + (yP kp fl sy pb pa p 0 r + fkS (evP kp fl sy pb pa p 0) Z) + (yP kp fl sy pb pa gs 2 r + fkS (evP kp fl sy pb pa gs 2) Z)
  omega
theorem wP_3 {u : Nat} {e c v p gs : Tm} {vis : List Nat} {r : Nv} {Z : List (List Nv)} (h : rdQ sy p 0 vis) : wP kp fl sy pb pa (.elem (.div (.index u) (.elem e (.elem c (.elem v p)))) gs) 3 r Z ≤ wF (fun r => evE kp sy r e) r Z + (wF (fun r => evT kp sy r 8 c) r Z + wF (fun r => evT kp sy r 2 v) r Z) + wP kp fl sy pb pa p 0 r Z + wP kp fl sy pb pa gs 3 r Z := by
  have h1 := nk_y (kp := kp) (fl := fl) (pb := pb) (pa := pa) p 0 vis h r
  have h0 := nk_app (evE kp sy r e ++ (evT kp sy r 8 c ++ evT kp sy r 2 v)) (evP kp fl sy pb pa p 0 r)
  have h4 := nk_app (evE kp sy r e) (evT kp sy r 8 c ++ evT kp sy r 2 v)
  have h5 := nk_app (evT kp sy r 8 c) (evT kp sy r 2 v)
  have h2 := fS_app (fun r => evE kp sy r e ++ (evT kp sy r 8 c ++ evT kp sy r 2 v) ++ evP kp fl sy pb pa p 0 r) (evP kp fl sy pb pa gs 3) Z
  have h3 := fS_app (fun r => evE kp sy r e ++ (evT kp sy r 8 c ++ evT kp sy r 2 v)) (evP kp fl sy pb pa p 0) Z
  have h6 := fS_app (fun r => evE kp sy r e) (fun r => evT kp sy r 8 c ++ evT kp sy r 2 v) Z
  have h7 := fS_app (fun r => evT kp sy r 8 c) (fun r => evT kp sy r 2 v) Z
  show max (nk (evE kp sy r e ++ (evT kp sy r 8 c ++ evT kp sy r 2 v)) + yP kp fl sy pb pa p 0 r) (nk (evE kp sy r e ++ (evT kp sy r 8 c ++ evT kp sy r 2 v) ++ evP kp fl sy pb pa p 0 r) + yP kp fl sy pb pa gs 3 r) + fkS (fun r => evE kp sy r e ++ (evT kp sy r 8 c ++ evT kp sy r 2 v) ++ evP kp fl sy pb pa p 0 r ++ evP kp fl sy pb pa gs 3 r) Z ≤ (nk (evE kp sy r e) + fkS (fun r => evE kp sy r e) Z) + ((nk (evT kp sy r 8 c) + fkS (fun r => evT kp sy r 8 c) Z) + (nk (evT kp sy r 2 v) + fkS (fun r => evT kp sy r 2 v) Z)) + (yP kp fl sy pb pa p 0 r + fkS (evP kp fl sy pb pa p 0) Z) + (yP kp fl sy pb pa gs 3 r + fkS (evP kp fl sy pb pa gs 3) Z)
  omega
theorem wP_while {u : Nat} {e p : Tm} {r : Nv} {Z : List (List Nv)} : wP kp fl sy pb pa (.div (.index u) (.div e p)) 0 r Z ≤ wF (fun r => evE kp sy r e) r Z + wP kp fl sy pb pa p 0 r Z := by
  have h3 := fS_app (fun r => evE kp sy r e) (evP kp fl sy pb pa p 0) Z
  show nk (evE kp sy r e) + yP kp fl sy pb pa p 0 r + fkS (fun r => evE kp sy r e ++ evP kp fl sy pb pa p 0 r) Z ≤ (nk (evE kp sy r e) + fkS (fun r => evE kp sy r e) Z) + (yP kp fl sy pb pa p 0 r + fkS (evP kp fl sy pb pa p 0) Z)
  omega
theorem wP_for {u s : Nat} {e1 e2 p : Tm} {r : Nv} {Z : List (List Nv)} : wP kp fl sy pb pa (.div (.index u) (.rem (.arg s) (.elem (.elem e1 e2) p))) 0 r Z ≤ wF (fun r => evE kp sy r e1) r Z + wF (fun r => evE kp sy r e2) r Z + wP kp fl sy pb pa p 0 r Z := by
  have h0 := nk_app (evE kp sy r e1) (evE kp sy r e2)
  have h3 := fS_app (fun r => evE kp sy r e1 ++ evE kp sy r e2) (evP kp fl sy pb pa p 0) Z
  have h4 := fS_app (fun r => evE kp sy r e1) (fun r => evE kp sy r e2) Z
  show nk (evE kp sy r e1 ++ evE kp sy r e2) + yP kp fl sy pb pa p 0 r + fkS (fun r => evE kp sy r e1 ++ evE kp sy r e2 ++ evP kp fl sy pb pa p 0 r) Z ≤ (nk (evE kp sy r e1) + fkS (fun r => evE kp sy r e1) Z) + (nk (evE kp sy r e2) + fkS (fun r => evE kp sy r e2) Z) + (yP kp fl sy pb pa p 0 r + fkS (evP kp fl sy pb pa p 0) Z)
  omega
theorem mxN_ex {f : Nat → Nat} : ∀ m, 1 ≤ m → ∃ k, k < m ∧ mxN f m = f k
  | 0, h => absurd h (Nat.not_lt_zero _)
  | 1, _ => ⟨0, Nat.one_pos, by show max 0 (f 0) = f 0; omega⟩
  | m + 2, _ => by
    obtain ⟨k, h1, h2⟩ := mxN_ex (f := f) (m + 1) (by omega)
    have e : mxN f (m + 2) = max (mxN f (m + 1)) (f (m + 1)) := rfl
    rcases Nat.le_total (mxN f (m + 1)) (f (m + 1)) with h | h
    · exact ⟨m + 1, by omega, by rw [e]; omega⟩
    · exact ⟨k, by omega, by rw [e]; omega⟩
theorem wP_loop {u s b m : Nat} {p : Tm} {r : Nv} {Z : List (List Nv)} (h : 1 ≤ m) : ∃ k, k < m ∧ wP kp fl sy pb pa (.div (.index u) (.rem (.index s) (.elem (.elem (.index b) (.index m)) p))) 0 r Z ≤ wP kp fl sy pb pa p 0 (upE r s (nI (b + k))) (xZ s b m k r Z) := by
  obtain ⟨k, h1, h2⟩ := mxN_ex (f := fun k => nk (catN (fun k => evP kp fl sy pb pa p 0 (upE r s (nI (b + k)))) k) + yP kp fl sy pb pa p 0 (upE r s (nI (b + k)))) m h
  refine ⟨k, h1, ?_⟩
  have h3 := nk_cat (F := evP kp fl sy pb pa p 0) (s := s) (b := b) (k := k) (r := r)
  have h4 := fS_loop (F := evP kp fl sy pb pa p 0) (s := s) (b := b) (m := m) Z
  show mxN (fun k => nk (catN (fun k => evP kp fl sy pb pa p 0 (upE r s (nI (b + k)))) k) + yP kp fl sy pb pa p 0 (upE r s (nI (b + k)))) m + fkS (fun r => catN (fun k => evP kp fl sy pb pa p 0 (upE r s (nI (b + k)))) m) Z ≤ yP kp fl sy pb pa p 0 (upE r s (nI (b + k))) + (fk (evP kp fl sy pb pa p 0) (xp s b k [r]) + fkS (evP kp fl sy pb pa p 0) (Z.map (xp s b m)))
  rw [h2]
  omega
end
