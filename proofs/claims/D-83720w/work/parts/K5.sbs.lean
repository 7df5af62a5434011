/-! (S): less is known; words become data -/
/-- z' knows less than z, or takes words of its own as data -/
def cv (z z' : Sg) : Prop := zI z' = zI z ∧ zU z' = zU z ∧ zL z' = zL z ∧ zR z' = zR z ∧ zW z' = zW z ∧ rAny z' ∧ (zL z).2.1 = [] ∧ (zR z).1 = 0 ∧ (∀ o, zG z' o = zG z o ∨ (zG z' o).1 = 0 ∨ ((zG z' o).1 = 1 ∧ 0 < o ∧ o < (zI z).2)) ∧ ∀ o, (zG z' o).1 = 15 ∨ (zG z' o).1 = 16 → zG z' (zG z' o).2.2 = zG z (zG z' o).2.2
theorem cv_tr {z z' z'' : Sg} (h : cv z z') (h' : cv z' z'') : cv z z'' := by
  obtain ⟨a1, a2, a3, a4, a5, a6, a7, a8, a9, a10⟩ := h
  obtain ⟨b1, b2, b3, b4, b5, b6, b7, b8, b9, b10⟩ := h'
  refine ⟨b1.trans a1, b2.trans a2, b3.trans a3, b4.trans a4, b5.trans a5, b6, a7, a8, fun o => ?_, fun o ho => ?_⟩
  · rcases b9 o with y | y | y
    · rw [y]; exact a9 o
    · exact Or.inr (Or.inl y)
    · rw [a1] at y; exact Or.inr (Or.inr y)
  · have e : zG z'' o = zG z' o := by
      rcases b9 o with y | y | y
      · exact y
      · omega
      · omega
    have h1 := b10 o ho
    rw [h1]
    rw [e] at ho ⊢
    exact a10 o ho
/-- closed under knowing more -/
def clo (Y : Nat → Sg → Prop) : Prop := ∀ j z z', Y j z' → cv z z' → Y j z
section
variable {C : Cx} {M : Nat} {E : En} {s : Cr} {w : Wd} {g : Gh} {Q : Thr} {t : Nat} {th : Th} {R Y : Nat → Sg → Prop} {j : Nat} {z z' : Sg}
theorem cv_go {W : Nat} {r : List Fm} (I : Inv C M s w g Q E) (e : Q t = some th) (e0 : thS th = 0) (ef : thF th = (W, j, z) :: r) (h : cv z z') : ∃ g', Inv C M s w g' (qU Q t ((W, j, z') :: r, th.2)) E := by
  obtain ⟨a1, a2, a3, a4, a5, a6, a7, a8, a9, a10⟩ := h
  have k := kid_0 I e e0 ef a8
  obtain ⟨hW, hWM, p1, ct⟩ := W_M I e ef
  obtain ⟨-, -, -, qp, -⟩ := run_0 I e e0 ef
  obtain ⟨W0, j0, z0, r0, b1, b2, b3, b4, b5, -⟩ := I.2.1 t th e
  rw [ef] at b1
  cases b1
  obtain ⟨c1, c2, c3, c4, c5, c6⟩ := b5 (W, j, z) (by rw [ef]; exact List.mem_cons_self)
  simp only at c1 c2 c3 c4 c5 c6
  have hM := I.1.2
  -- words that become data
  refine ⟨(g.1, (fun x => if W < x ∧ x < W + (zI z).2 ∧ (zG z' ((x : Int) - W)).1 = 1 then 1 else g.2.1 x), g.2.2), ?_⟩
  have gD : ∀ x : Nat, ¬ (W < x ∧ x < W + (zI z).2 ∧ (zG z' ((x : Int) - W)).1 = 1) → (if W < x ∧ x < W + (zI z).2 ∧ (zG z' ((x : Int) - W)).1 = 1 then 1 else g.2.1 x) = g.2.1 x := fun x hx => if_neg hx
  have wN : ∀ off, wk C.2 M (g.1, (fun x => if W < x ∧ x < W + (zI z).2 ∧ (zG z' ((x : Int) - W)).1 = 1 then 1 else g.2.1 x), g.2.2) Q (t :: thA th) t (thP th) (zG z') s.2.1 W (zI z).2 off := by
    intro off
    by_cases c : zG z' off = zG z off ∧ ¬ ((zG z' off).1 = 1 ∧ 0 < off ∧ off < (zI z).2)
    · refine wk_G (g := g) (g' := (g.1, (fun x => if W < x ∧ x < W + (zI z).2 ∧ (zG z' ((x : Int) - W)).1 = 1 then 1 else g.2.1 x), g.2.2)) (P := fun o => ¬ (zG z' o = zG z o ∧ ¬ ((zG z' o).1 = 1 ∧ 0 < o ∧ o < (zI z).2))) (Z := fun x => ¬ (W < x ∧ x < W + (zI z).2 ∧ (zG z' ((x : Int) - W)).1 = 1)) c4 (fun o no h15 hp => ?_) (fun o no => (Classical.not_not.mp no).1) (fun a ha => by omega) (fun o no h0 hz hx => ?_) (fun _ _ _ => rfl) (fun x hx => ⟨rfl, gD x hx, rfl, rfl⟩) (fun y => y c)
      · have no := Classical.not_not.mp no
        rw [← no.1] at h15 hp
        refine hp ⟨a10 o h15, fun y => ?_⟩
        have e1 := a10 o h15
        obtain ⟨-, -, -, q3, -, q5, -⟩ := wk_h (c4 o) (by rw [← no.1]; omega)
        rw [← no.1] at q5
        have hk15 : (zG z' o).1 = 15 ∨ (zG z' o).1 = 16 := h15
        have := q5 (by omega)
        rw [e1] at y
        rcases hk15 with hk | hk
        · rw [hk] at this
          have := this.1
          have : 10 ≤ (zG z (zG z' o).2.2).1 := this
          omega
        · rw [hk] at this
          have := this.1
          have : 10 ≤ (zG z (zG z' o).2.2).1 := this
          omega
      · have no := Classical.not_not.mp no
        refine no.2 ⟨?_, by omega, by omega⟩
        have := hx.2.2
        rwa [show (((W : Int) + o).toNat : Int) - W = o by omega] at this
    · rcases a9 off with y | y | y
      · have y1 : (zG z' off).1 = 1 ∧ 0 < off ∧ off < (zI z).2 := Classical.byContradiction fun n => c ⟨y, n⟩
        refine Or.inr ⟨by omega, by omega, Or.inl ⟨y1.1, by omega, by omega, ?_, ?_⟩⟩
        · exact if_pos ⟨by omega, by omega, by rw [show (((W : Int) + off).toNat : Int) - W = off by omega]; exact y1.1⟩
        · rw [own_i I e k (f := (W, j, z)) (by rw [ef]; exact List.mem_cons_self) (x := ((W : Int) + off).toNat) (by show W ≤ ((W : Int) + off).toNat + (zI z).1; omega) (by show ((W : Int) + off).toNat < W + (zI z).2; omega)]
          exact List.mem_cons_self
      · exact Or.inl y
      · refine Or.inr ⟨by omega, by omega, Or.inl ⟨y.1, by omega, by omega, ?_, ?_⟩⟩
        · exact if_pos ⟨by omega, by omega, by rw [show (((W : Int) + off).toNat : Int) - W = off by omega]; exact y.1⟩
        · rw [own_i I e k (f := (W, j, z)) (by rw [ef]; exact List.mem_cons_self) (x := ((W : Int) + off).toNat) (by show W ≤ ((W : Int) + off).toNat + (zI z).1; omega) (by show ((W : Int) + off).toNat < W + (zI z).2; omega)]
          exact List.mem_cons_self
  have bt : ∀ o, btS (zG z' o) ≠ 0 → zG z' o = zG z o := by
    intro o h
    unfold btS at h
    rcases a9 o with y | y | y
    · exact y
    · rw [if_neg (by omega)] at h; exact (h rfl).elim
    · rw [if_neg (by omega)] at h; exact (h rfl).elim
  have nz : ∀ x y : Nat, x &&& y ≠ 0 → x ≠ 0 ∧ y ≠ 0 := fun x y h => ⟨fun c => h (by rw [c, Nat.zero_and]), fun c => h (by rw [c, Nat.and_zero])⟩
  have ad : ∀ o, zG z' o = zG z o → adS (zG z') s.2.1 W o = adS (zG z) s.2.1 W o := fun o h => by unfold adS; rw [h]
  refine go_f I e e0 ef (fun _ _ => rfl) rfl (fun x hx => (hx rfl).elim) (fun _ => rfl) (fun x hx => ⟨gD x (fun y => hx ⟨k, by omega, by omega, by omega⟩), rfl, rfl⟩) a1 a2 a5 a4 wN ⟨fun o o' n h => ?_, fun o c hc h => ?_⟩ qp ?_ (fun ne => (ne (by rw [a3]; exact a7)).elim) (fun c hc => ?_)
  · have x1 := bt o (nz _ _ h).1
    have x2 := bt o' (nz _ _ h).2
    rw [ad o x1, ad o' x2]
    rw [x1, x2] at h
    exact c6.1 o o' n h
  · have x1 := bt o (nz _ _ h).1
    rw [ad o x1]
    rw [x1] at h
    exact c6.2 o c hc h
  · unfold rOK
    rw [show zA z' = (k0, k0, k0) from a6]
    exact ⟨trivial, trivial, trivial⟩
  · have hc : (if W < c ∧ c < W + (zI z).2 ∧ (zG z' ((c : Int) - W)).1 = 1 then 1 else g.2.1 c) = 2 := hc
    have nD : ¬ (W < c ∧ c < W + (zI z).2 ∧ (zG z' ((c : Int) - W)).1 = 1) := fun y => by rw [if_pos y] at hc; exact absurd hc (by decide)
    rw [if_neg nD] at hc
    exact ⟨(I.2.2.1 c hc).1, Or.inr ⟨hc, rfl, fun ae => (aE_ne ae a7).elim⟩⟩
theorem ru_cv (h : rul C M E R j z') (hR : R j z') (c : cv z z') : rul C M E R j z := by
  obtain ⟨f, v, h1, h2⟩ := h
  refine ⟨f, v, h1, fun s w g Q t th W r I hw e e0 ef h11 => ?_⟩
  obtain ⟨g1, I1⟩ := cv_go I e e0 ef c
  obtain ⟨s', w', x1, x2, g', Q', x3, x4⟩ := h2 s w g1 _ t ((W, j, z') :: r, th.2) W r I1 hw qU_t e0 rfl h11
  exact ⟨s', w', x1, x2, g', Q', x3, (nFr_1 e ef hR).tr x4⟩
theorem gf_cv (hY : clo Y) (h : gfX C M E Y j z') (c : cv z z') : gfX C M E Y j z := by
  rcases gf_pf j z' h with y | y
  · exact gf_in (hY j z z' y c)
  · exact gf_ru (ru_cv y h c)
/-- a loop's head may be taken as given further on -/
def lpY (Y : Nat → Sg → Prop) (j : Nat) (z : Sg) : Nat → Sg → Prop := fun j' z' => Y j' z' ∨ (j' = j ∧ (z' = z ∨ cv z' z))
theorem clo_lp (hY : clo Y) : clo (lpY Y j z) := by
  rintro j1 z1 z2 (y | ⟨y1, y2 | y2⟩) c
  · exact Or.inl (hY j1 z1 z2 y c)
  · subst y2
    exact Or.inr ⟨y1, Or.inr c⟩
  · exact Or.inr ⟨y1, Or.inr (cv_tr c y2)⟩
theorem gf_lpc (h : rul C M E (gfX C M E (lpY Y j z)) j z) : gfX C M E Y j z := by
  have hj : gfX C M E (lpY Y j z) j z := gf_in (Or.inr ⟨rfl, Or.inl rfl⟩)
  refine ⟨gfX C M E (lpY Y j z), ?_, hj⟩
  intro j' z' h'
  rcases gf_pf j' z' h' with (h1 | ⟨rfl, rfl | h1⟩) | h1
  · exact Or.inl h1
  · exact Or.inr h
  · exact Or.inr (ru_cv h hj h1)
  · exact Or.inr h1
end
/-- the value of an item at place i; pe: where PROCs begin -/
def vIt (pl pe : Nat → Nat) (it : It) (i : Nat) : Int32 := if it.2.2.1 = 0 then it.2.1 else if it.2.2.1 = 1 then nI (pl it.2.2.2.1) - nI (pl (i + 1)) else if it.2.2.1 = 2 then nI (pl it.2.2.2.1) - nI (pl it.2.2.2.2) else nI (pl (pe it.2.2.2.1)) - nI (pl (i + 1))
/-- the code holds L from a on -/
def cod (C : Cx) (pe : Nat → Nat) (a : Nat) : List It → Prop
  | [] => True
  | x :: L => C.1 a = some (x.1, vIt C.2 pe x a) ∧ cod C pe (a + 1) L
section
variable {C : Cx} {pe : Nat → Nat}
theorem cod_app : ∀ (L L' : List It) (a : Nat), cod C pe a (L ++ L') ↔ cod C pe a L ∧ cod C pe (a + L.length) L'
  | [], L', a => by
    show cod C pe a L' ↔ True ∧ cod C pe (a + 0) L'
    rw [Nat.add_zero]
    exact ⟨fun h => ⟨trivial, h⟩, fun h => h.2⟩
  | x :: L, L', a => by
    show _ ∧ cod C pe (a + 1) (L ++ L') ↔ (_ ∧ cod C pe (a + 1) L) ∧ cod C pe (a + (L.length + 1)) L'
    rw [cod_app L L' (a + 1), and_assoc, show a + 1 + L.length = a + (L.length + 1) by omega]
end
