/-! the code: calls are of PROCs that are there, ways stay within -/
def okI (m hi : Nat) (it : It) : Prop := (it.1 ≤ 15 ∧ it.2.2.1 ≤ 3) ∧ (it.2.2.1 = 3 → it.2.2.2.1 < m) ∧ (it.2.2.1 = 1 → it.2.2.2.1 ≤ hi) ∧ (it.2.2.1 = 2 → it.2.2.2.1 ≤ hi ∧ it.2.2.2.2 ≤ hi)
def okL (m hi : Nat) (L : List It) : Prop := ∀ it ∈ L, okI m hi it
section
variable {m hi : Nat}
theorem okL_nil : okL m hi [] ↔ True := sorry
theorem okL_cons {x : It} {L : List It} : okL m hi (x :: L) ↔ okI m hi x ∧ okL m hi L := sorry
theorem okL_app {A B : List It} : okL m hi (A ++ B) ↔ okL m hi A ∧ okL m hi B := sorry
theorem okL_ite {c : Prop} [Decidable c] {A B : List It} (h1 : okL m hi A) (h2 : okL m hi B) : okL m hi (if c then A else B) := sorry
theorem okL_cat {f : Nat → List It} : ∀ k, (∀ i, i < k → okL m hi (f i)) → okL m hi (catN f k) := sorry
theorem ok_V {f : Nat} {v : Int32} {L : List It} : okL m hi (iV f v :: L) ↔ f ≤ 15 ∧ okL m hi L := sorry
theorem ok_O {o : Nat} {L : List It} : okL m hi (iO o :: L) ↔ okL m hi L := sorry
theorem ok_W {f t : Nat} {L : List It} (hf : f ≤ 15) : okL m hi (iW f t :: L) ↔ t ≤ hi ∧ okL m hi L := sorry
theorem ok_B {t b : Nat} {L : List It} : okL m hi (iB 4 t b :: L) ↔ (t ≤ hi ∧ b ≤ hi) ∧ okL m hi L := sorry
theorem ok_C {p : Nat} {L : List It} (h : p < m) : okL m hi (iC p :: L) ↔ okL m hi L := sorry
theorem h71 {c : Prop} [Decidable c] : ((if c then 7 else 1) ≤ 15) ↔ True := sorry
variable {sy : List Sym} {wd r : Nat → Int32}
theorem ok_sg (o : Nat) : okL m hi (sgI o) := sorry
theorem ok_E : ∀ e f a, a + nE sy e ≤ hi → okL m hi (kE sy wd r e f a) := sorry
theorem ok_A (e : Tm) (f a : Nat) (hh : a + nD sy e ≤ hi) : okL m hi (kA sy wd r e f a) := sorry
theorem ok_As : ∀ (e : Tm) (f a : Nat), a + nAs sy e ≤ hi → okL m hi (kAs sy wd r e f a) := sorry
theorem ok_Ca {sz : Nat} : ∀ (k : Nat) (qs : List Nat) (as : Tm) (f a : Nat), a + nCa sy qs as ≤ hi → okL m hi (kC sy wd r sz k qs as f a) := sorry
theorem ok_G1 (e c : Tm) (w f a : Nat) (hh : a + nG1 sy e c ≤ hi) : okL m hi (kG1 sy wd r e c w f a) := sorry
theorem ok_H1 : ∀ (gs : Tm) (w f a : Nat), a + nH1 sy gs ≤ hi → okL m hi (kH1 sy wd r gs w f a) := sorry
theorem ok_G2 (c : Tm) (w o1 o2 : Nat) : okL m hi (kG2 c w o1 o2) := sorry
theorem ok_H2 : ∀ (gs : Tm) (w : Nat), okL m hi (kH2 gs w) := sorry
theorem ok_H3 {pa : List (List Nat)} : ∀ (gs : Tm) (w st bs : Nat), st + nQ sy pa gs 3 ≤ hi → bs ≤ hi → okL m hi (kH3 sy pa gs w st bs) := sorry
theorem ok_hB1 (a st d o : Nat) (h1 : a + 2 ≤ hi) (h2 : st ≤ hi) : okL m hi (hB1 a st d o) := sorry
theorem ok_hB {pz : List (Nat × Nat)} {pa : List (List Nat)} : ∀ (b : Bool) (ps : Tm) (a st x : Nat), a + 4 * tmN ps ≤ hi → st + nQ sy pa ps 4 ≤ hi → okL m hi (hB sy pz pa b ps a st x) := sorry
theorem ok_hd (a w many beh : Nat) (h1 : a + 2 ≤ hi) (h2 : beh ≤ hi) : okL m hi (hdQ a w many beh) := sorry
theorem ok_dc (s lv q : Nat) (D : Nat → Int32) (c : Nat) : okL m hi (dcI sy s lv q D c) := sorry
end
theorem ok_P {sy : List Sym} {pz : List (Nat × Nat)} {pa : List (List Nat)} {hi : Nat} : ∀ (A : Tm) (md l : Nat) (vis : List Nat) (slo shi : Nat), wfQ sy pa A md l vis slo shi → ∀ m, (m = md ∨ (m = 4 ∧ md = 1)) → ∀ (rh : Nat → Nat × Nat) (D : Nat → Int32) (lv q : Nat) (r : Nat → Int32) (a x y : Nat), a + nQ sy pa A m ≤ hi → (m = 2 → x ≤ hi) → (m = 3 → y ≤ hi) → okL pa.length hi (kP sy pz pa A m rh D lv q r a x y) := sorry
