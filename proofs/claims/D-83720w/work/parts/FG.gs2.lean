/-! how long the code is -/
section
variable {sy : List Sym} {pz : List (Nat × Nat)} {pa : List (List Nat)} {wd r : Nat → Int32}
theorem kA_len : ∀ (e : Tm) (f a : Nat), (kA sy wd r e f a).length = nD sy e := sorry
theorem kC_len {sz : Nat} : ∀ (k : Nat) (qs : List Nat) (as : Tm) (f a : Nat), (kC sy wd r sz k qs as f a).length = nCa sy qs as := sorry
theorem kAs_len : ∀ (e : Tm) (f a : Nat), (kAs sy wd r e f a).length = nAs sy e := sorry
theorem kG1_len (e c : Tm) (w f a : Nat) : (kG1 sy wd r e c w f a).length = nG1 sy e c := sorry
theorem kH1_len : ∀ (gs : Tm) (w f a : Nat), (kH1 sy wd r gs w f a).length = nH1 sy gs := sorry
theorem kG2_len (c : Tm) (w o1 o2 : Nat) : (kG2 c w o1 o2).length = nG2 c := sorry
theorem kH2_len : ∀ (gs : Tm) (w : Nat), (kH2 gs w).length = nH2 gs := sorry
theorem kH3_len : ∀ (gs : Tm) (w st bs : Nat), (kH3 sy pa gs w st bs).length = nH3 gs := sorry
theorem hB_len : ∀ (b : Bool) (ps : Tm) (a st x : Nat), (hB sy pz pa b ps a st x).length = 4 * tmN ps := sorry
theorem catN_len {α : Type} {f : Nat → List α} {n : Nat} : ∀ m, (∀ k, k < m → (f k).length = n) → (catN f m).length = m * n := sorry
theorem dcI_len (s lv q : Nat) (D : Nat → Int32) (c : Nat) : (dcI sy s lv q D c).length = 4 * c := sorry
theorem kP_len : ∀ (A : Tm) (m : Nat) (rh : Nat → Nat × Nat) (D : Nat → Int32) (lv q : Nat) (r : Nat → Int32) (a x y : Nat), (kP sy pz pa A m rh D lv q r a x y).length = nQ sy pa A m := sorry
end

