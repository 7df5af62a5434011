/-! (S): what is seen, wires' events -/
theorem seeV_in {vis : List Nat} {s : Nat} : ∀ c t, (t ∈ vis ∨ ∃ k, k < c ∧ t = s + k) → t ∈ seeS vis s c
  | 0, t, h => by
    rcases h with h | ⟨k, hk, -⟩
    · exact h
    · omega
  | c + 1, t, h => by
    show t ∈ (s + c) :: seeS vis s c
    by_cases e : t = s + c
    · rw [e]; exact List.mem_cons_self
    · refine List.mem_cons_of_mem _ (seeV_in c t (h.imp_right ?_))
      rintro ⟨k, h1, h2⟩
      exact ⟨k, by omega, h2⟩
theorem catN_of {α : Type} {f : Nat → List α} {x : α} : ∀ m, x ∈ catN f m → ∃ k, k < m ∧ x ∈ f k
  | 0, h => nomatch h
  | m + 1, h => by
    rw [catN] at h
    rcases List.mem_append.mp h with y | y
    · obtain ⟨k, h1, h2⟩ := catN_of m y
      exact ⟨k, by omega, h2⟩
    · exact ⟨m, by omega, y⟩
section
variable {sy : List Sym} {vis vis' : List Nat}
/-- PROCs' names need not be seen -/
def moV (sy : List Sym) (vis vis' : List Nat) : Prop := ∀ s ∈ vis, srO sy s ≠ 0 → s ∈ vis'
theorem moV.cons {s : Nat} (h : moV sy vis vis') : moV sy (s :: vis) (s :: vis') := by
  intro t ht h0
  rcases List.mem_cons.mp ht with e | e
  · rw [e]; exact List.mem_cons_self
  · exact List.mem_cons_of_mem _ (h t e h0)
theorem moV.see {s c : Nat} (h : moV sy vis vis') : moV sy (seeS vis s c) (seeS vis' s c) := by
  intro t ht h0
  rcases see_mem c t ht with e | e
  · exact seeV_in c t (Or.inl (h t e h0))
  · exact seeV_in c t (Or.inr e)
theorem k_val {k : Nat} (h : sVal k = true) : k ≠ 0 ∧ k ≠ 1 := by
  unfold sVal at h
  simp only [Bool.or_eq_true, beq_iff_eq] at h
  omega
theorem k_var {k : Nat} (h : sVar k = true) : k ≠ 0 ∧ k ≠ 1 := by
  unfold sVar at h
  simp only [Bool.or_eq_true, beq_iff_eq] at h
  omega
theorem k_arr {k : Nat} (h : sArr k = true) : k ≠ 0 ∧ k ≠ 1 := by
  unfold sArr at h
  simp only [Bool.or_eq_true, beq_iff_eq] at h
  omega
theorem k_chn {k : Nat} (h : sChn k = true) : k ≠ 0 := by
  unfold sChn at h
  simp only [Bool.or_eq_true, beq_iff_eq] at h
  omega
theorem wfE_mo (h : moV sy vis vis') : ∀ e, wfE sy vis e → wfE sy vis' e := by
  intro e
  induction e using wfE.induct with
  | case1 => exact fun w => w
  | case2 s => exact fun w => ⟨h _ w.1 (k_val w.2).1, w.2⟩
  | case3 s e ih => exact fun w => ⟨h _ w.1 (k_arr w.2.1).1, w.2.1, ih w.2.2⟩
  | case4 e ih => exact fun w => ih w
  | case5 e ih => exact fun w => ih w
  | case6 e ih => exact fun w => ih w
  | case7 o x y i1 i2 => exact fun w => ⟨w.1, i1 w.2.1, i2 w.2.2⟩
  | case8 t h1 h2 h3 h4 h5 h6 h7 =>
    intro w
    unfold wfE at w
    split at w
    · exact (h1 _ rfl).elim
    · exact (h2 _ rfl).elim
    · exact (h3 _ _ rfl).elim
    · exact (h4 _ rfl).elim
    · exact (h5 _ rfl).elim
    · exact (h6 _ rfl).elim
    · exact (h7 _ _ _ rfl).elim
    · exact w.elim
theorem wfX_mo (h : moV sy vis vis') {e : Tm} (w : wfX sy vis e) : wfX sy vis' e := ⟨wfE_mo h e w.1, w.2⟩
theorem wfV_mo (h : moV sy vis vis') {e : Tm} (w : wfV sy vis e) : wfV sy vis' e := by
  unfold wfV at w
  split at w
  · exact ⟨h _ w.1 (k_var w.2).1, w.2⟩
  · exact ⟨h _ w.1 (k_arr w.2.1).1, w.2.1, wfX_mo h w.2.2⟩
  · exact w.elim
theorem wfC_mo (h : moV sy vis vis') {e : Tm} (w : wfC sy vis e) : wfC sy vis' e := by
  unfold wfC at w
  split at w
  · exact ⟨h _ w.1 (k_chn w.2), w.2⟩
  · exact ⟨h _ w.1 (by rw [w.2.1]; decide), w.2.1, wfX_mo h w.2.2⟩
  · exact w.elim
theorem wfA_mo (h : moV sy vis vis') : ∀ (qs : List Nat) (as : Tm), wfA sy vis qs as → wfA sy vis' qs as := by
  intro qs
  induction qs with
  | nil =>
    intro as w
    cases as <;> exact w
  | cons q qs ih =>
    intro as w
    obtain ⟨x, as', rfl, w1, wr⟩ := wfA_c w
    refine ⟨?_, ih as' wr⟩
    rcases w1 with ⟨a, b⟩ | ⟨a, s, b, c, d, e⟩ | ⟨a, b⟩ | ⟨a, b, c, d⟩
    · exact Or.inl ⟨a, wfX_mo h b⟩
    · exact Or.inr (Or.inl ⟨a, s, b, h s c (k_arr d).1, d, e⟩)
    · exact Or.inr (Or.inr (Or.inl ⟨a, wfV_mo h b⟩))
    · exact Or.inr (Or.inr (Or.inr ⟨a, b, c, wfC_mo h d⟩))
theorem wfQ_mo {pa : List (List Nat)} : ∀ (A : Tm) (m l : Nat) (vis : List Nat) (lo hi : Nat) (vis' : List Nat), moV sy vis vis' → wfQ sy pa A m l vis lo hi → wfQ sy pa A m l vis' lo hi := by
  intro A m l vis lo hi
  induction A, m, l, vis, lo, hi using wfQ.induct with
  | case1 => exact fun _ _ h => h
  | case2 => exact fun _ _ h => h
  | case3 => exact fun _ v h => ⟨h.1, wfV_mo v h.2.1, wfX_mo v h.2.2⟩
  | case4 => exact fun _ v h => ⟨h.1, wfC_mo v h.2.1, wfX_mo v h.2.2⟩
  | case5 => exact fun _ v h => ⟨h.1, wfC_mo v h.2.1, wfV_mo v h.2.2⟩
  | case6 => exact fun _ v h => ⟨h.1, h.2.1, wfA_mo v _ _ h.2.2⟩
  | case7 u ps l vis lo hi ih => exact fun _ v h => ⟨h.1, ih _ v h.2⟩
  | case8 u s e1 e2 p l vis lo hi ih => exact fun _ v h => ⟨h.1, h.2.1, h.2.2.1, wfX_mo v h.2.2.2.1, wfX_mo v h.2.2.2.2.1, h.2.2.2.2.2.1, ih _ v.cons h.2.2.2.2.2.2⟩
  | case9 u z0 ps l vis lo hi ih => exact fun _ v h => ⟨h.1, h.2.1, h.2.2.1, h.2.2.2.1, ih _ v h.2.2.2.2⟩
  | case10 u s b m p l vis lo hi ih => exact fun _ v h => ⟨h.1, h.2.1, h.2.2.1, h.2.2.2.1, h.2.2.2.2.1, h.2.2.2.2.2.1, h.2.2.2.2.2.2.1, ih _ v.cons h.2.2.2.2.2.2.2⟩
  | case11 u z0 ps l vis lo hi ih => exact fun _ v h => ⟨h.1, h.2.1, h.2.2.1, ih _ v h.2.2.2⟩
  | case12 u gs l vis lo hi ih => exact fun _ v h => ⟨h.1, h.2.1, ih _ v h.2.2⟩
  | case13 u e p l vis lo hi ih => exact fun _ v h => ⟨wfX_mo v h.1, h.2.1, ih _ v h.2.2⟩
  | case14 u gs l vis lo hi ih => exact fun _ v h => ⟨h.1, h.2.1, h.2.2.1, ih _ v h.2.2.2⟩
  | case15 u s c p l vis lo hi ih => exact fun _ v h => ⟨h.1, h.2.1, h.2.2.1, h.2.2.2.1, ih _ v.see h.2.2.2.2⟩
  | case16 => exact fun _ _ h => h
  | case17 p ps l vis lo hi ih1 ih2 => rintro _ v ⟨m, h1, h2⟩; exact ⟨m, ih1 m _ v h1, ih2 m _ v h2⟩
  | case18 => exact fun _ _ h => h
  | case19 e p gs l vis lo hi ih1 ih2 => rintro _ v ⟨w1, w2, m, h1, h2⟩; exact ⟨wfX_mo v w1, w2, m, ih1 m _ v h1, ih2 m _ v h2⟩
  | case20 => exact fun _ _ h => h
  | case21 u e c v p gs l vis lo hi ih1 ih2 => rintro _ vv ⟨w1, w2, w3, m, h1, h2⟩; exact ⟨w1.imp_right (wfX_mo vv), w2.imp_right (fun y => ⟨wfC_mo vv y.1, wfV_mo vv y.2⟩), w3, m, ih1 m _ vv h1, ih2 m _ vv h2⟩
  | case22 A m l vis lo hi h1 h2 h3 h4 h5 h6 h7 h8 h9 h10 h11 h12 h13 h14 h15 h16 h17 h18 h19 h20 h21 =>
    intro _ _ h
    unfold wfQ at h
    split at h
    · exact (h1 _ rfl rfl).elim
    · exact (h2 _ rfl rfl).elim
    · exact (h3 _ _ _ rfl rfl).elim
    · exact (h4 _ _ _ rfl rfl).elim
    · exact (h5 _ _ _ rfl rfl).elim
    · exact (h6 _ _ _ rfl rfl).elim
    · exact (h7 _ _ rfl rfl).elim
    · exact (h8 _ _ _ _ _ rfl rfl).elim
    · exact (h9 _ _ _ rfl rfl).elim
    · exact (h10 _ _ _ _ _ rfl rfl).elim
    · exact (h11 _ _ _ rfl rfl).elim
    · exact (h12 _ _ rfl rfl).elim
    · exact (h13 _ _ _ rfl rfl).elim
    · exact (h14 _ _ rfl rfl).elim
    · exact (h15 _ _ _ _ rfl rfl).elim
    · exact (h16 rfl rfl).elim
    · exact (h17 _ _ rfl rfl).elim
    · exact (h18 rfl rfl).elim
    · exact (h19 _ _ _ rfl rfl).elim
    · exact (h20 rfl rfl).elim
    · exact (h21 _ _ _ _ _ _ rfl rfl).elim
    · exact h.elim
/-! events on wires are allowed -/
theorem evE_w {kp : Nat → Bool} {r : Nat → Int32} : ∀ e, wfE sy vis e → ∀ x ∈ evE kp sy r e, srO sy x.1.1 ≠ 1 := by
  intro e
  induction e using wfE.induct with
  | case1 => exact fun _ x hx => nomatch hx
  | case2 s =>
    intro w x hx
    rw [evE] at hx
    split at hx
    · rw [List.mem_singleton] at hx; rw [hx]; exact (k_val w.2).2
    · exact nomatch hx
  | case3 s e ih =>
    intro w x hx
    rw [evE] at hx
    rcases List.mem_append.mp hx with y | y
    · exact ih w.2.2 x y
    · rw [List.mem_singleton] at y; rw [y]; exact (k_arr w.2.1).2
  | case4 e ih => exact fun w => ih w
  | case5 e ih => exact fun w => ih w
  | case6 e ih => exact fun w => ih w
  | case7 o x y i1 i2 =>
    intro w z hz
    rw [evE] at hz
    rcases List.mem_append.mp hz with q | q
    · exact i1 w.2.1 z q
    · exact i2 w.2.2 z q
  | case8 t h1 h2 h3 h4 h5 h6 h7 =>
    intro w
    unfold wfE at w
    split at w
    · exact (h1 _ rfl).elim
    · exact (h2 _ rfl).elim
    · exact (h3 _ _ rfl).elim
    · exact (h4 _ rfl).elim
    · exact (h5 _ rfl).elim
    · exact (h6 _ rfl).elim
    · exact (h7 _ _ _ rfl).elim
    · exact w.elim
theorem evV_w {kp : Nat → Bool} {r : Nat → Int32} {m : Nat} {v : Tm} (w : wfV sy vis v) : ∀ x ∈ evT kp sy r m v, srO sy x.1.1 ≠ 1 := by
  unfold wfV at w
  split at w
  · intro x hx
    rw [evT] at hx
    split at hx
    · rw [List.mem_singleton] at hx; rw [hx]; exact (k_var w.2).2
    · exact nomatch hx
  · intro x hx
    rw [evT] at hx
    rcases List.mem_append.mp hx with y | y
    · exact evE_w _ w.2.2.1 x y
    · rw [List.mem_singleton] at y; rw [y]; exact (k_arr w.2.1).2
  · exact w.elim
theorem evC_w {kp : Nat → Bool} {r : Nat → Int32} {m : Nat} {v : Tm} (w : wfC sy vis v) : ∀ x ∈ evT kp sy r m v, srO sy x.1.1 = 1 → x.1.1 = nmT v ∧ x.2 = m := by
  unfold wfC at w
  split at w
  · intro x hx h1
    rw [evT] at hx
    split at hx
    · rw [List.mem_singleton] at hx; rw [hx]; exact ⟨rfl, rfl⟩
    · exact nomatch hx
  · intro x hx h1
    rw [evT] at hx
    rcases List.mem_append.mp hx with y | y
    · exact (evE_w _ w.2.2.1 x y h1).elim
    · rw [List.mem_singleton] at y; rw [y] at h1; rw [show srO sy _ = 9 from w.2.1] at h1; exact absurd h1 (by decide)
  · exact w.elim
theorem wof_n {lk : List (Nat × Nat)} {wh : Option Nat} {u s m : Nat} (h : wof sy lk wh u s m = []) (h1 : srO sy s = 1) (hm : m ≠ 0) : wok sy lk wh s m = true := by
  unfold wof at h
  cases e : wok sy lk wh s m with
  | true => rfl
  | false => rw [if_pos ⟨h1, hm, e⟩] at h; exact nomatch h
theorem evA_w {kp : Nat → Bool} {pb : Nat → Nat} {lk : List (Nat × Nat)} {wh : Option Nat} {r : Nat → Int32} {u : Nat} : ∀ (qs : List Nat) (as : Tm), wfA sy vis qs as → wfA_o sy pb lk wh u qs as = [] → ∀ x ∈ evA kp sy pb r qs as, srO sy x.1.1 = 1 → x.2 ≠ 0 → wok sy lk wh x.1.1 x.2 = true := by
  intro qs
  induction qs with
  | nil => intro as w ho x hx; exact nomatch hx
  | cons q qs ih =>
    intro as w ho x hx h1 h2
    obtain ⟨a, as', rfl, w1, wr⟩ := wfA_c w
    rw [wfA_o] at ho
    obtain ⟨o1, o2⟩ := off_app ho
    rw [evA] at hx
    rcases List.mem_append.mp hx with y | y
    · rcases w1 with ⟨q3, b⟩ | ⟨q6, s, b, c, d, e⟩ | ⟨q4, b⟩ | ⟨q3, q6, q4, b⟩
      · rw [if_pos q3] at y
        exact (evE_w _ b.1 x y h1).elim
      · rw [if_neg (by omega), b, evT] at y
        split at y
        · rw [List.mem_singleton] at y; rw [y] at h1; exact ((k_arr d).2 h1).elim
        · exact nomatch y
      · rw [if_neg (by omega)] at y
        exact (evV_w b x y h1).elim
      · rw [if_neg q3] at y o1
        obtain ⟨e1, e2⟩ := evC_w b x y h1
        rw [e2] at h2
        rw [e1] at h1
        rw [e1, e2]
        exact wof_n o1 h1 h2
    · exact ih as' wr o2 x y h1 h2
theorem ev_w {kp : Nat → Bool} {fl mk : Bool} {pb : Nat → Nat} {pa : List (List Nat)} {lk : List (Nat × Nat)} {wh : Option Nat} : ∀ (A : Tm) (m l : Nat) (vis : List Nat) (lo hi : Nat) (r : Nat → Int32), wfQ sy pa A m l vis lo hi → offP kp fl mk sy pb pa lk wh A m r = [] → ∀ x ∈ evP kp fl sy pb pa A m r, srO sy x.1.1 = 1 → x.2 ≠ 0 → wok sy lk wh x.1.1 x.2 = true := by
  intro A m l vis lo hi
  induction A, m, l, vis, lo, hi using wfQ.induct with
  | case1 => exact fun r _ _ x hx => nomatch hx
  | case2 => exact fun r _ _ x hx => nomatch hx
  | case3 u v e l vis lo hi =>
    intro r h ho x hx h1 h2
    rw [evP] at hx
    rcases List.mem_append.mp hx with y | y
    · exact (evE_w _ h.2.2.1 x y h1).elim
    · exact (evV_w h.2.1 x y h1).elim
  | case4 u c e l vis lo hi =>
    intro r h ho x hx h1 h2
    rw [evP] at hx
    rw [offP] at ho
    rcases List.mem_append.mp hx with y | y
    · exact (evE_w _ h.2.2.1 x y h1).elim
    · obtain ⟨e1, e2⟩ := evC_w h.2.1 x y h1
      rw [e2] at h2
      rw [e1] at h1
      rw [e1, e2]
      exact wof_n ho h1 h2
  | case5 u c v l vis lo hi =>
    intro r h ho x hx h1 h2
    rw [evP] at hx
    rw [offP] at ho
    rcases List.mem_append.mp hx with y | y
    · obtain ⟨e1, e2⟩ := evC_w h.2.1 x y h1
      rw [e2] at h2
      rw [e1] at h1
      rw [e1, e2]
      exact wof_n ho h1 h2
    · exact (evV_w h.2.2 x y h1).elim
  | case6 u p as l vis lo hi =>
    intro r h ho x hx h1 h2
    rw [evP] at hx
    rw [offP] at ho
    exact evA_w _ _ h.2.2 (off_app ho).1 x hx h1 h2
  | case7 u ps l vis lo hi ih =>
    intro r h ho
    rw [evP]
    rw [offP] at ho
    exact ih r h.2 ho
  | case8 u s e1 e2 p l vis lo hi ih =>
    intro r h ho x hx h1 h2
    rw [evP] at hx
    rw [offP] at ho
    rcases List.mem_append.mp hx with y | y
    · rcases List.mem_append.mp y with y | y
      · exact (evE_w _ h.2.2.2.1.1 x y h1).elim
      · exact (evE_w _ h.2.2.2.2.1.1 x y h1).elim
    · exact ih r h.2.2.2.2.2.2 ho x y h1 h2
  | case9 u z0 ps l vis lo hi ih =>
    intro r h ho
    rw [evP]
    rw [offP] at ho
    exact ih r h.2.2.2.2 (off_app ho).1
  | case10 u s b m p l vis lo hi ih =>
    intro r h ho x hx h1 h2
    rw [evP] at hx
    rw [offP] at ho
    obtain ⟨k, hk, hx⟩ := catN_of m hx
    exact ih _ h.2.2.2.2.2.2.2 (catN_nil m k hk (off_app ho).1) x hx h1 h2
  | case11 u z0 ps l vis lo hi ih =>
    intro r h ho
    rw [evP]
    rw [offP] at ho
    exact ih r h.2.2.2 (off_app ho).1
  | case12 u gs l vis lo hi ih =>
    intro r h ho
    rw [evP]
    rw [offP] at ho
    exact ih r h.2.2 ho
  | case13 u e p l vis lo hi ih =>
    intro r h ho x hx h1 h2
    rw [evP] at hx
    rw [offP] at ho
    rcases List.mem_append.mp hx with y | y
    · exact (evE_w _ h.1.1 x y h1).elim
    · exact ih r h.2.2 ho x y h1 h2
  | case14 u gs l vis lo hi ih =>
    intro r h ho
    rw [evP]
    rw [offP] at ho
    exact ih r h.2.2.2 ho
  | case15 u s c p l vis lo hi ih =>
    intro r h ho x hx h1 h2
    rw [evP] at hx
    rw [offP] at ho
    have hx : x ∈ evP kp fl sy pb pa p 0 r := by
      cases fl with
      | true => rw [if_pos rfl] at hx; exact (List.mem_filter.mp hx).1
      | false => rw [if_neg (by decide)] at hx; exact hx
    exact ih r h.2.2.2.2 ho x hx h1 h2
  | case16 => exact fun r _ _ x hx => nomatch hx
  | case17 p ps l vis lo hi ih1 ih2 =>
    rintro r ⟨m, w1, w2⟩ ho x hx h1 h2
    rw [evP] at hx
    rw [offP] at ho
    rcases List.mem_append.mp hx with y | y
    · exact ih1 m r w1 (off_app ho).1 x y h1 h2
    · exact ih2 m r w2 (off_app ho).2 x y h1 h2
  | case18 => exact fun r _ _ x hx => nomatch hx
  | case19 e p gs l vis lo hi ih1 ih2 =>
    rintro r ⟨we, -, m, w1, w2⟩ ho x hx h1 h2
    rw [evP] at hx
    rw [offP] at ho
    rcases List.mem_append.mp hx with y | y
    · rcases List.mem_append.mp y with y | y
      · exact (evE_w _ we.1 x y h1).elim
      · exact ih1 m r w1 (off_app ho).1 x y h1 h2
    · exact ih2 m r w2 (off_app ho).2 x y h1 h2
  | case20 => exact fun r _ _ x hx => nomatch hx
  | case21 u e c v p gs l vis lo hi ih1 ih2 =>
    rintro r ⟨we, wc, -, m, w1, w2⟩ ho x hx h1 h2
    rw [evP] at hx
    rw [offP] at ho
    obtain ⟨o1, o2⟩ := off_app ho
    obtain ⟨o0, o1⟩ := off_app o1
    rcases List.mem_append.mp hx with y | y
    · rcases List.mem_append.mp y with y | y
      · rcases List.mem_append.mp y with y | y
        · rcases we with ⟨we, -⟩ | we
          · rw [we] at y; exact nomatch y
          · exact (evE_w _ we.1 x y h1).elim
        · rcases wc with ⟨e1, e2⟩ | ⟨wc, wv⟩
          · rw [e1, e2] at y; exact nomatch y
          · rcases List.mem_append.mp y with y | y
            · obtain ⟨e1, e2⟩ := evC_w wc x y h1
              rw [e2] at h2
              rw [e1] at h1
              rw [e1, e2]
              have o0 : wof sy lk wh u (nmT c) 8 = [] := by
                unfold wofC at o0
                split at o0
                · exact wc.elim
                · exact o0
              exact wof_n o0 h1 h2
            · exact (evV_w wv x y h1).elim
      · exact ih1 m r w1 o1 x y h1 h2
    · exact ih2 m r w2 o2 x y h1 h2
  | case22 A m l vis lo hi h1 h2 h3 h4 h5 h6 h7 h8 h9 h10 h11 h12 h13 h14 h15 h16 h17 h18 h19 h20 h21 =>
    intro _ h
    unfold wfQ at h
    split at h
    · exact (h1 _ rfl rfl).elim
    · exact (h2 _ rfl rfl).elim
    · exact (h3 _ _ _ rfl rfl).elim
    · exact (h4 _ _ _ rfl rfl).elim
    · exact (h5 _ _ _ rfl rfl).elim
    · exact (h6 _ _ _ rfl rfl).elim
    · exact (h7 _ _ rfl rfl).elim
    · exact (h8 _ _ _ _ _ rfl rfl).elim
    · exact (h9 _ _ _ rfl rfl).elim
    · exact (h10 _ _ _ _ _ rfl rfl).elim
    · exact (h11 _ _ _ rfl rfl).elim
    · exact (h12 _ _ rfl rfl).elim
    · exact (h13 _ _ _ rfl rfl).elim
    · exact (h14 _ _ rfl rfl).elim
    · exact (h15 _ _ _ _ rfl rfl).elim
    · exact (h16 rfl rfl).elim
    · exact (h17 _ _ rfl rfl).elim
    · exact (h18 rfl rfl).elim
    · exact (h19 _ _ _ rfl rfl).elim
    · exact (h20 rfl rfl).elim
    · exact (h21 _ _ _ _ _ _ rfl rfl).elim
    · exact h.elim
end
