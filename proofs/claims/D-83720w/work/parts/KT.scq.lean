/-! (S): functions in the code -/
def fnO (f : Nat) : Prop := f < 16 ∧ f ≠ 2 ∧ f ≠ 6
def fnL (L : List It) : Prop := ∀ it ∈ L, fnO it.1
section
theorem fnL_nil : fnL [] ↔ True := ⟨fun _ => trivial, fun _ _ h => by cases h⟩
theorem fnL_cons {x : It} {L : List It} : fnL (x :: L) ↔ fnO x.1 ∧ fnL L := by
  constructor
  · exact fun h => ⟨h x List.mem_cons_self, fun y hy => h y (List.mem_cons_of_mem _ hy)⟩
  · rintro ⟨h1, h2⟩ y hy
    rcases List.mem_cons.mp hy with rfl | hy
    · exact h1
    · exact h2 y hy
theorem fnL_app {A B : List It} : fnL (A ++ B) ↔ fnL A ∧ fnL B := by
  constructor
  · exact fun h => ⟨fun y hy => h y (List.mem_append_left _ hy), fun y hy => h y (List.mem_append_right _ hy)⟩
  · rintro ⟨h1, h2⟩ y hy
    rcases List.mem_append.mp hy with hy | hy
    · exact h1 y hy
    · exact h2 y hy
theorem fnL_ite {c : Prop} [Decidable c] {A B : List It} (h1 : fnL A) (h2 : fnL B) : fnL (if c then A else B) := by
  split
  · exact h1
  · exact h2
theorem fnL_cat {f : Nat → List It} : ∀ k, (∀ i, i < k → fnL (f i)) → fnL (catN f k)
  | 0, _ => fnL_nil.mpr trivial
  | k + 1, h => by rw [catN, fnL_app]; exact ⟨fnL_cat k (fun i hi => h i (by omega)), h k (by omega)⟩
theorem fn_V {f : Nat} {v : Int32} {L : List It} : fnL (iV f v :: L) ↔ fnO f ∧ fnL L := fnL_cons
theorem fn_O {o : Nat} {L : List It} : fnL (iO o :: L) ↔ fnL L := by rw [fnL_cons]; exact ⟨fun h => h.2, fun h => ⟨by show fnO 15; exact ⟨by decide, by decide, by decide⟩, h⟩⟩
theorem fn_W {f t : Nat} {L : List It} : fnL (iW f t :: L) ↔ fnO f ∧ fnL L := fnL_cons
theorem fn_B {f t b : Nat} {L : List It} : fnL (iB f t b :: L) ↔ fnO f ∧ fnL L := fnL_cons
theorem fn_C {p : Nat} {L : List It} : fnL (iC p :: L) ↔ fnL L := by rw [fnL_cons]; exact ⟨fun h => h.2, fun h => ⟨by show fnO 9; exact ⟨by decide, by decide, by decide⟩, h⟩⟩
theorem f71 {c : Prop} [Decidable c] : fnO (if c then 7 else 1) ↔ True := ⟨fun _ => trivial, fun _ => by split <;> exact ⟨by decide, by decide, by decide⟩⟩
theorem fq_0 : fnO 0 ↔ True := ⟨fun _ => trivial, fun _ => ⟨by decide, by decide, by decide⟩⟩
theorem fq_1 : fnO 1 ↔ True := ⟨fun _ => trivial, fun _ => ⟨by decide, by decide, by decide⟩⟩
theorem fq_3 : fnO 3 ↔ True := ⟨fun _ => trivial, fun _ => ⟨by decide, by decide, by decide⟩⟩
theorem fq_4 : fnO 4 ↔ True := ⟨fun _ => trivial, fun _ => ⟨by decide, by decide, by decide⟩⟩
theorem fq_5 : fnO 5 ↔ True := ⟨fun _ => trivial, fun _ => ⟨by decide, by decide, by decide⟩⟩
theorem fq_7 : fnO 7 ↔ True := ⟨fun _ => trivial, fun _ => ⟨by decide, by decide, by decide⟩⟩
theorem fq_8 : fnO 8 ↔ True := ⟨fun _ => trivial, fun _ => ⟨by decide, by decide, by decide⟩⟩
theorem fq_9 : fnO 9 ↔ True := ⟨fun _ => trivial, fun _ => ⟨by decide, by decide, by decide⟩⟩
theorem fq_10 : fnO 10 ↔ True := ⟨fun _ => trivial, fun _ => ⟨by decide, by decide, by decide⟩⟩
theorem fq_11 : fnO 11 ↔ True := ⟨fun _ => trivial, fun _ => ⟨by decide, by decide, by decide⟩⟩
theorem fq_12 : fnO 12 ↔ True := ⟨fun _ => trivial, fun _ => ⟨by decide, by decide, by decide⟩⟩
theorem fq_13 : fnO 13 ↔ True := ⟨fun _ => trivial, fun _ => ⟨by decide, by decide, by decide⟩⟩
theorem fq_14 : fnO 14 ↔ True := ⟨fun _ => trivial, fun _ => ⟨by decide, by decide, by decide⟩⟩
theorem fq_15 : fnO 15 ↔ True := ⟨fun _ => trivial, fun _ => ⟨by decide, by decide, by decide⟩⟩
theorem fn_f4 : fnO 4 := ⟨by decide, by decide, by decide⟩
variable {sy : List Sym} {wd r : Nat → Int32}
theorem fn_sg (o : Nat) : fnL (sgI o) := by
  unfold sgI
  repeat' (refine fnL_ite ?_ ?_)
  all_goals simp [fn_V, fn_O, fnL_nil, f71, fq_0, fq_1, fq_3, fq_4, fq_5, fq_7, fq_8, fq_9, fq_10, fq_11, fq_12, fq_13, fq_14, fq_15]
theorem fn_E : ∀ e f a, fnL (kE sy wd r e f a) := by
  intro e
  induction e using nE.induct sy with
  | case1 v => intro f a; rw [kE]; simp [fn_V, fn_O, fnL_nil, f71, fq_0, fq_1, fq_3, fq_4, fq_5, fq_7, fq_8, fq_9, fq_10, fq_11, fq_12, fq_13, fq_14, fq_15]
  | case2 s h => intro f a; rw [kE]; refine fnL_ite ?_ (fnL_ite ?_ ?_) <;> simp [fn_V, fn_O, fnL_nil, f71, fq_0, fq_1, fq_3, fq_4, fq_5, fq_7, fq_8, fq_9, fq_10, fq_11, fq_12, fq_13, fq_14, fq_15]
  | case3 s h => intro f a; rw [kE]; refine fnL_ite ?_ (fnL_ite ?_ ?_) <;> simp [fn_V, fn_O, fnL_nil, f71, fq_0, fq_1, fq_3, fq_4, fq_5, fq_7, fq_8, fq_9, fq_10, fq_11, fq_12, fq_13, fq_14, fq_15]
  | case4 s e ih => intro f a; rw [kE, fnL_app]; refine ⟨ih _ _, ?_⟩; simp [fn_V, fn_O, fnL_nil, f71, fq_0, fq_1, fq_3, fq_4, fq_5, fq_7, fq_8, fq_9, fq_10, fq_11, fq_12, fq_13, fq_14, fq_15]
  | case5 e ih => intro f a; rw [kE, fnL_app]; exact ⟨ih _ _, by simp [fn_V, fn_O, fnL_nil, f71, fq_0, fq_1, fq_3, fq_4, fq_5, fq_7, fq_8, fq_9, fq_10, fq_11, fq_12, fq_13, fq_14, fq_15]⟩
  | case6 e ih => intro f a; rw [kE, fnL_app]; exact ⟨ih _ _, by simp [fn_V, fn_O, fnL_nil, f71, fq_0, fq_1, fq_3, fq_4, fq_5, fq_7, fq_8, fq_9, fq_10, fq_11, fq_12, fq_13, fq_14, fq_15]⟩
  | case7 e ih => intro f a; rw [kE]; exact ih _ _
  | case8 x y i1 i2 => intro f a; rw [kE, if_pos rfl, fnL_app, fn_W, fnL_app]; exact ⟨i1 _ _, ⟨by decide, by decide, by decide⟩, i2 _ _, by simp [fn_V, fn_O, fnL_nil, f71, fq_0, fq_1, fq_3, fq_4, fq_5, fq_7, fq_8, fq_9, fq_10, fq_11, fq_12, fq_13, fq_14, fq_15]⟩
  | case9 x y h1 i1 i2 => intro f a; rw [kE, if_neg h1, if_pos rfl, fnL_app, fn_V, fn_W, fnL_app]; exact ⟨i1 _ _, ⟨by decide, by decide, by decide⟩, ⟨by decide, by decide, by decide⟩, i2 _ _, by simp [fn_V, fn_O, fnL_nil, f71, fq_0, fq_1, fq_3, fq_4, fq_5, fq_7, fq_8, fq_9, fq_10, fq_11, fq_12, fq_13, fq_14, fq_15]⟩
  | case10 o x y h1 h2 h3 i1 i2 => intro f a; rw [kE, if_neg h1, if_neg h2, if_pos h3, fnL_app, fnL_app]; exact ⟨⟨i1 _ _, i2 _ _⟩, fn_sg o⟩
  | case11 o x y h1 h2 h3 i1 i2 => intro f a; rw [kE, if_neg h1, if_neg h2, if_neg h3, fnL_app, fn_V, fnL_app, fn_V]; exact ⟨i1 _ _, ⟨by decide, by decide, by decide⟩, i2 _ _, ⟨by decide, by decide, by decide⟩, fn_sg o⟩
  | case12 x h1 h2 h3 h4 h5 h6 h7 =>
    intro f a
    unfold kE
    split
    · exact (h1 _ rfl).elim
    · exact (h2 _ rfl).elim
    · exact (h3 _ _ rfl).elim
    · exact (h4 _ rfl).elim
    · exact (h5 _ rfl).elim
    · exact (h6 _ rfl).elim
    · exact (h7 _ _ _ rfl).elim
    · exact fnL_nil.mpr trivial
theorem fn_A (e : Tm) (f a : Nat) : fnL (kA sy wd r e f a) := by
  unfold kA
  split
  · rw [fnL_app]; refine ⟨fn_E _ _ _, ?_⟩; simp [fn_V, fn_O, fnL_nil, f71, fq_0, fq_1, fq_3, fq_4, fq_5, fq_7, fq_8, fq_9, fq_10, fq_11, fq_12, fq_13, fq_14, fq_15]
  · exact fnL_ite (by simp [fn_V, fn_O, fnL_nil, f71, fq_0, fq_1, fq_3, fq_4, fq_5, fq_7, fq_8, fq_9, fq_10, fq_11, fq_12, fq_13, fq_14, fq_15]) (by simp [fn_V, fn_O, fnL_nil, f71, fq_0, fq_1, fq_3, fq_4, fq_5, fq_7, fq_8, fq_9, fq_10, fq_11, fq_12, fq_13, fq_14, fq_15])
  · exact fnL_nil.mpr trivial
theorem fn_As : ∀ (e : Tm) (f a : Nat), fnL (kAs sy wd r e f a) := by
  intro e f a
  cases e with
  | arg s =>
    rw [kAs]
    refine fnL_ite (by simp [fn_V, fn_O, fnL_nil, f71, fq_0, fq_1, fq_3, fq_4, fq_5, fq_7, fq_8, fq_9, fq_10, fq_11, fq_12, fq_13, fq_14, fq_15]) ?_
    rw [fnL_app]
    refine ⟨?_, by simp [fn_V, fn_O, fnL_nil, f71, fq_0, fq_1, fq_3, fq_4, fq_5, fq_7, fq_8, fq_9, fq_10, fq_11, fq_12, fq_13, fq_14, fq_15]⟩
    rw [kA]
    exact fnL_ite (by simp [fn_V, fn_O, fnL_nil, f71, fq_0, fq_1, fq_3, fq_4, fq_5, fq_7, fq_8, fq_9, fq_10, fq_11, fq_12, fq_13, fq_14, fq_15]) (by simp [fn_V, fn_O, fnL_nil, f71, fq_0, fq_1, fq_3, fq_4, fq_5, fq_7, fq_8, fq_9, fq_10, fq_11, fq_12, fq_13, fq_14, fq_15])
  | _ => exact fnL_app.mpr ⟨fn_A _ _ _, by simp [fn_V, fn_O, fnL_nil, f71, fq_0, fq_1, fq_3, fq_4, fq_5, fq_7, fq_8, fq_9, fq_10, fq_11, fq_12, fq_13, fq_14, fq_15]⟩
theorem fn_Ca {sz : Nat} : ∀ (k : Nat) (qs : List Nat) (as : Tm) (f a : Nat), fnL (kC sy wd r sz k qs as f a) := by
  intro k qs as f a
  induction k, qs, as, f, a using kC.induct sy with
  | case1 k q qs x as f a ih =>
    rw [kC, fnL_app, fn_V]
    refine ⟨?_, ⟨by decide, by decide, by decide⟩, ih⟩
    exact fnL_ite (fn_E _ _ _) (fn_A _ _ _)
  | case2 =>
    rename_i h
    unfold kC
    split
    · exact (h _ _ _ _ rfl rfl).elim
    · exact fnL_nil.mpr trivial
theorem fn_G1 (e c : Tm) (w f a : Nat) : fnL (kG1 sy wd r e c w f a) := by
  unfold kG1
  rw [fnL_app, fn_V]
  refine ⟨fnL_ite (by simp [fn_V, fn_O, fnL_nil, f71, fq_0, fq_1, fq_3, fq_4, fq_5, fq_7, fq_8, fq_9, fq_10, fq_11, fq_12, fq_13, fq_14, fq_15]) (fn_E _ _ _), ⟨by decide, by decide, by decide⟩, fnL_ite (fnL_nil.mpr trivial) ?_⟩
  rw [fnL_app]
  exact ⟨fn_A _ _ _, by simp [fn_V, fn_O, fnL_nil, f71, fq_0, fq_1, fq_3, fq_4, fq_5, fq_7, fq_8, fq_9, fq_10, fq_11, fq_12, fq_13, fq_14, fq_15]⟩
theorem fn_H1 : ∀ (gs : Tm) (w f a : Nat), fnL (kH1 sy wd r gs w f a) := by
  intro gs w f a
  induction gs, w, f, a using kH1.induct sy with
  | case1 u e c v p gs w f a ih =>
    rw [kH1, fnL_app]
    exact ⟨fn_G1 _ _ _ _ _, ih⟩
  | case2 gs w f a h =>
    unfold kH1
    split
    · exact (h _ _ _ _ _ _ rfl).elim
    · exact fnL_nil.mpr trivial
theorem fn_G2 (c : Tm) (w o1 o2 : Nat) : fnL (kG2 c w o1 o2) := by unfold kG2; exact fnL_ite (by simp [fn_V, fn_O, fnL_nil, f71, fq_0, fq_1, fq_3, fq_4, fq_5, fq_7, fq_8, fq_9, fq_10, fq_11, fq_12, fq_13, fq_14, fq_15]) (by simp [fn_V, fn_O, fnL_nil, f71, fq_0, fq_1, fq_3, fq_4, fq_5, fq_7, fq_8, fq_9, fq_10, fq_11, fq_12, fq_13, fq_14, fq_15])
theorem fn_H2 : ∀ (gs : Tm) (w : Nat), fnL (kH2 gs w) := by
  intro gs w
  induction gs, w using kH2.induct with
  | case1 u e c v p gs w ih => rw [kH2, fnL_app]; exact ⟨fn_G2 _ _ _ _, ih⟩
  | case2 gs w h =>
    unfold kH2
    split
    · exact (h _ _ _ _ _ _ rfl).elim
    · exact fnL_nil.mpr trivial
theorem fn_H3 {pa : List (List Nat)} : ∀ (gs : Tm) (w st bs : Nat), fnL (kH3 sy pa gs w st bs) := by
  intro gs w st bs
  induction gs, w, st, bs using kH3.induct sy pa with
  | case1 u e c v p gs w st bs ih =>
    rw [kH3, fn_B, fnL_app]
    exact ⟨fn_f4, fn_G2 _ _ _ _, ih⟩
  | case2 gs w st bs h =>
    unfold kH3
    split
    · exact (h _ _ _ _ _ _ rfl).elim
    · exact fnL_nil.mpr trivial
theorem fn_hB1 (a st d o : Nat) : fnL (hB1 a st d o) := by unfold hB1; rw [fn_B]; exact ⟨fn_f4, by simp [fn_V, fn_O, fnL_nil, f71, fq_0, fq_1, fq_3, fq_4, fq_5, fq_7, fq_8, fq_9, fq_10, fq_11, fq_12, fq_13, fq_14, fq_15]⟩
theorem fn_hB {pz : List (Nat × Nat)} {pa : List (List Nat)} : ∀ (b : Bool) (ps : Tm) (a st x : Nat), fnL (hB sy pz pa b ps a st x) := by
  intro b ps a st x
  induction b, ps, a, st, x using hB.induct sy pz pa with
  | case1 b p ps a st x ih =>
    rw [hB, fnL_app]
    exact ⟨fn_hB1 _ _ _ _, ih⟩
  | case2 =>
    rename_i h
    unfold hB
    split
    · exact (h _ _ rfl).elim
    · exact fnL_nil.mpr trivial
theorem fn_hd (a w many beh : Nat) : fnL (hdQ a w many beh) := by unfold hdQ; rw [fn_B]; exact ⟨fn_f4, by simp [fn_V, fn_O, fnL_nil, f71, fq_0, fq_1, fq_3, fq_4, fq_5, fq_7, fq_8, fq_9, fq_10, fq_11, fq_12, fq_13, fq_14, fq_15]⟩
theorem fn_dc (s lv q : Nat) (D : Nat → Int32) (c : Nat) : fnL (dcI sy s lv q D c) := by unfold dcI; exact fnL_cat c (fun i _ => by simp [fn_V, fn_O, fnL_nil, f71, fq_0, fq_1, fq_3, fq_4, fq_5, fq_7, fq_8, fq_9, fq_10, fq_11, fq_12, fq_13, fq_14, fq_15])
end
theorem fn_P {sy : List Sym} {pz : List (Nat × Nat)} {pa : List (List Nat)} : ∀ (A : Tm) (m : Nat) (rh : Nat → Nat × Nat) (D : Nat → Int32) (lv q : Nat) (r : Nat → Int32) (a x y : Nat), fnL (kP sy pz pa A m rh D lv q r a x y) := by
  intro A m
  induction A, m using nQ.induct with
  | case1 u s c p ih => intro rh D lv q r a x y; rw [kP, fnL_app]; exact ⟨fn_dc _ _ _ _ _, ih _ _ _ _ _ _ _ _⟩
  | case2 u => intro rh D lv q r a x y; rw [kP]; simp [fn_V, fn_O, fnL_nil, f71, fq_0, fq_1, fq_3, fq_4, fq_5, fq_7, fq_8, fq_9, fq_10, fq_11, fq_12, fq_13, fq_14, fq_15]
  | case3 u v e => intro rh D lv q r a x y; rw [kP, fnL_app]; exact ⟨fn_E _ _ _, fn_As _ _ _⟩
  | case4 u v e => intro rh D lv q r a x y; rw [kP, fnL_app, fnL_app]; exact ⟨⟨fn_E _ _ _, fn_A _ _ _⟩, by simp [fn_V, fn_O, fnL_nil, f71, fq_0, fq_1, fq_3, fq_4, fq_5, fq_7, fq_8, fq_9, fq_10, fq_11, fq_12, fq_13, fq_14, fq_15]⟩
  | case5 u v e => intro rh D lv q r a x y; rw [kP, fnL_app, fnL_app]; exact ⟨⟨fn_A _ _ _, fn_A _ _ _⟩, by simp [fn_V, fn_O, fnL_nil, f71, fq_0, fq_1, fq_3, fq_4, fq_5, fq_7, fq_8, fq_9, fq_10, fq_11, fq_12, fq_13, fq_14, fq_15]⟩
  | case6 u p as => intro rh D lv q r a x y; rw [kP, fnL_app, fn_C]; exact ⟨fn_Ca _ _ _ _ _, fnL_nil.mpr trivial⟩
  | case7 u ps ih => intro rh D lv q r a x y; rw [kP]; exact ih _ _ _ _ _ _ _ _
  | case8 u s e1 e2 p ih =>
    intro rh D lv q r a x y
    rw [kP, fnL_app, fn_V, fnL_app, fnL_app, fnL_app]
    refine ⟨fn_E _ _ _, ⟨by decide, by decide, by decide⟩, ⟨⟨fn_E _ _ _, ?_⟩, ih _ _ _ _ _ _ _ _⟩, ?_⟩
    · simp [fn_V, fn_O, fn_W, fnL_nil, fq_0, fq_1, fq_3, fq_4, fq_5, fq_7, fq_8, fq_9, fq_10, fq_11, fq_12, fq_13, fq_14, fq_15]
    · simp [fn_V, fn_O, fn_W, fnL_nil, fq_0, fq_1, fq_3, fq_4, fq_5, fq_7, fq_8, fq_9, fq_10, fq_11, fq_12, fq_13, fq_14, fq_15]
  | case9 u z ps ih => intro rh D lv q r a x y; rw [kP, fnL_app, fnL_app, fn_O]; exact ⟨⟨fn_hd _ _ _ _, fn_hB _ _ _ _ _⟩, ih _ _ _ _ _ _ _ _⟩
  | case10 u z ps ih => intro rh D lv q r a x y; rw [kP, fnL_app, fnL_app, fn_O]; exact ⟨⟨fn_hd _ _ _ _, fn_hB _ _ _ _ _⟩, ih _ _ _ _ _ _ _ _⟩
  | case11 u s b m p ih =>
    intro rh D lv q r a x y
    rw [kP, fnL_app, fnL_app, fn_O]
    refine ⟨⟨fn_hd _ _ _ _, fnL_cat _ (fun i hi => fn_hB1 _ _ _ _)⟩, fnL_cat _ (fun i hi => ?_)⟩
    rw [fnL_app]
    exact ⟨ih _ _ _ _ _ _ _ _, by simp [fn_V, fn_O, fnL_nil, f71, fq_0, fq_1, fq_3, fq_4, fq_5, fq_7, fq_8, fq_9, fq_10, fq_11, fq_12, fq_13, fq_14, fq_15]⟩
  | case12 u gs ih => intro rh D lv q r a x y; rw [kP, fnL_app]; exact ⟨ih _ _ _ _ _ _ _ _, by simp [fn_V, fn_O, fnL_nil, f71, fq_0, fq_1, fq_3, fq_4, fq_5, fq_7, fq_8, fq_9, fq_10, fq_11, fq_12, fq_13, fq_14, fq_15]⟩
  | case13 u e p ih =>
    intro rh D lv q r a x y
    rw [kP, fnL_app, fn_W, fnL_app]
    refine ⟨fn_E _ _ _, ⟨by decide, by decide, by decide⟩, ih _ _ _ _ _ _ _ _, ?_⟩
    simp [fn_W, fnL_nil, fq_0, fq_1, fq_3, fq_4, fq_5, fq_7, fq_8, fq_9, fq_10, fq_11, fq_12, fq_13, fq_14, fq_15]
  | case14 u gs ih => intro rh D lv q r a x y; rw [kP, fnL_app, fn_O, fnL_app, fn_O, fnL_app, fn_O]; exact ⟨fn_H1 _ _ _ _, fn_H2 _ _, fn_H3 _ _ _ _, ih _ _ _ _ _ _ _ _⟩
  | case15 p ps i1 i2 => intro rh D lv q r a x y; rw [kP, fnL_app]; exact ⟨i1 _ _ _ _ _ _ _ _, i2 _ _ _ _ _ _ _ _⟩
  | case16 e p gs i1 i2 => intro rh D lv q r a x y; rw [kP, fnL_app, fn_W, fnL_app, fn_W]; exact ⟨fn_E _ _ _, ⟨by decide, by decide, by decide⟩, i1 _ _ _ _ _ _ _ _, ⟨by decide, by decide, by decide⟩, i2 _ _ _ _ _ _ _ _⟩
  | case17 u e c v p gs i1 i2 =>
    intro rh D lv q r a x y
    rw [kP, fnL_app, fnL_app, fn_W]
    refine ⟨⟨fnL_ite (fnL_nil.mpr trivial) ?_, i1 _ _ _ _ _ _ _ _⟩, ⟨by decide, by decide, by decide⟩, i2 _ _ _ _ _ _ _ _⟩
    rw [fnL_app]
    exact ⟨fn_A _ _ _, by simp [fn_V, fn_O, fnL_nil, f71, fq_0, fq_1, fq_3, fq_4, fq_5, fq_7, fq_8, fq_9, fq_10, fq_11, fq_12, fq_13, fq_14, fq_15]⟩
  | case18 p ps i1 i2 => intro rh D lv q r a x y; rw [kP, fnL_app, fn_V, fn_O]; exact ⟨i1 _ _ _ _ _ _ _ _, ⟨by decide, by decide, by decide⟩, i2 _ _ _ _ _ _ _ _⟩
  | case19 A m h1 h2 h3 h4 h5 h6 h7 h8 h9 h10 h11 h12 h13 h14 h15 h16 h17 h18 =>
    intro rh D lv q r a x y
    have e1 : nQ sy pa A m = 0 := by
      unfold nQ
      split
      · exact (h1 _ _ _ _ rfl rfl).elim
      · exact (h2 _ rfl rfl).elim
      · exact (h3 _ _ _ rfl rfl).elim
      · exact (h4 _ _ _ rfl rfl).elim
      · exact (h5 _ _ _ rfl rfl).elim
      · exact (h6 _ _ _ rfl rfl).elim
      · exact (h7 _ _ rfl rfl).elim
      · exact (h8 _ _ _ _ _ rfl rfl).elim
      · exact (h9 _ _ _ rfl rfl).elim
      · exact (h10 _ _ _ rfl rfl).elim
      · exact (h11 _ _ _ _ _ rfl rfl).elim
      · exact (h12 _ _ rfl rfl).elim
      · exact (h13 _ _ _ rfl rfl).elim
      · exact (h14 _ _ rfl rfl).elim
      · exact (h15 _ _ rfl rfl).elim
      · exact (h16 _ _ _ rfl rfl).elim
      · exact (h17 _ _ _ _ _ _ rfl rfl).elim
      · exact (h18 _ _ rfl rfl).elim
      · rfl
    have := kP_len (sy := sy) (pz := pz) (pa := pa) A m rh D lv q r a x y
    rw [e1, List.length_eq_zero_iff] at this
    rw [this]
    exact fnL_nil.mpr trivial
theorem fn_Bs {sy : List Sym} {pz : List (Nat × Nat)} {pa : List (List Nat)} {bs : List Tm} : ∀ k, fnL (kBs sy pz pa bs k)
  | 0 => fnL_nil.mpr trivial
  | k + 1 => by
    rw [kBs, fnL_app, kBd, fn_V, fnL_app]
    exact ⟨fn_Bs k, ⟨by decide, by decide, by decide⟩, fn_P _ _ _ _ _ _ _ _ _ _, by simp [fn_V, fn_O, fnL_nil, f71, fq_0, fq_1, fq_3, fq_4, fq_5, fq_7, fq_8, fq_9, fq_10, fq_11, fq_12, fq_13, fq_14, fq_15]⟩
theorem fn_Al {sy : List Sym} {pz : List (Nat × Nat)} {pa : List (List Nat)} {bs : List Tm} {R : Tm} : fnL (kAl sy pz pa bs R) := by
  rw [kAl, fnL_app, fnL_app]
  exact ⟨fn_Bs _, fn_P _ _ _ _ _ _ _ _ _ _, by simp [fn_V, fn_O, fnL_nil, f71, fq_0, fq_1, fq_3, fq_4, fq_5, fq_7, fq_8, fq_9, fq_10, fq_11, fq_12, fq_13, fq_14, fq_15]⟩
