/-! what uses there can be: their names, those of channels -/
def gEv (sy : List Sym) (vis : List Nat) (slo shi : Nat) (e : Ev) : Prop := (e.1.1 ∈ vis ∨ (slo ≤ e.1.1 ∧ e.1.1 < shi)) ∧ (chS (srO sy e.1.1) = true → e.2 &&& 3 = 0)
section
variable {sy : List Sym} {pa : List (List Nat)} {pb : Nat → Nat} {kp : Nat → Bool} {fl : Bool}
theorem gEv.mn {vis vis' : List Nat} {slo shi slo' shi' : Nat} {e : Ev} (a : gEv sy vis slo shi e) (h : ∀ s, s ∈ vis ∨ (slo ≤ s ∧ s < shi) → s ∈ vis' ∨ (slo' ≤ s ∧ s < shi')) : gEv sy vis' slo' shi' e := sorry
theorem chS_val : ∀ {k : Nat}, sVal k = true → chS k = false := sorry
theorem chS_arr : ∀ {k : Nat}, sArr k = true → chS k = false := sorry
theorem chS_var : ∀ {k : Nat}, sVar k = true → chS k = false := sorry
theorem gE_all {vis : List Nat} {slo shi : Nat} {r : Nat → Int32} : ∀ (e : Tm), wfE sy vis e → ∀ x ∈ evE kp sy r e, gEv sy vis slo shi x := sorry
theorem gT_all {vis : List Nat} {slo shi m : Nat} {r : Nat → Int32} {t : Tm} (w : (∃ s, t = .arg s ∧ s ∈ vis ∧ (chS (srO sy s) = true → m &&& 3 = 0)) ∨ ∃ s e, t = .elem (.arg s) e ∧ s ∈ vis ∧ wfX sy vis e ∧ (chS (srO sy s) = true → m &&& 3 = 0)) : ∀ x ∈ evT kp sy r m t, gEv sy vis slo shi x := sorry
theorem gV_w {vis : List Nat} {t : Tm} {m : Nat} (w : wfV sy vis t) : (∃ s, t = .arg s ∧ s ∈ vis ∧ (chS (srO sy s) = true → m &&& 3 = 0)) ∨ ∃ s e, t = .elem (.arg s) e ∧ s ∈ vis ∧ wfX sy vis e ∧ (chS (srO sy s) = true → m &&& 3 = 0) := sorry
theorem gC_w {vis : List Nat} {t : Tm} {m : Nat} (w : wfC sy vis t) (hm : m &&& 3 = 0) : (∃ s, t = .arg s ∧ s ∈ vis ∧ (chS (srO sy s) = true → m &&& 3 = 0)) ∨ ∃ s e, t = .elem (.arg s) e ∧ s ∈ vis ∧ wfX sy vis e ∧ (chS (srO sy s) = true → m &&& 3 = 0) := sorry
theorem gA_all {vis : List Nat} {slo shi : Nat} {r : Nat → Int32} : ∀ (qs : List Nat) (as : Tm), wfA sy vis qs as → (∀ q, q ∈ qs → prm (srO sy q)) → (∀ q, q ∈ qs → srO sy q = 8 → pb q &&& 3 = 0) → ∀ x ∈ evA kp sy pb r qs as, gEv sy vis slo shi x := sorry
theorem catN_in {α : Type} {f : Nat → List α} {x : α} : ∀ {m : Nat}, x ∈ catN f m → ∃ k, k < m ∧ x ∈ f k := sorry
theorem flN_in {p : Nat → Bool} {E : List Ev} {x : Ev} (h : x ∈ flN p E) : x ∈ E ∧ p x.1.1 = true := sorry
theorem g_all (hP : ∀ p, p < pa.length → ∀ q, q ∈ pa.getD p [] → prm (srO sy q)) (hB : ∀ p, p < pa.length → ∀ q, q ∈ pa.getD p [] → srO sy q = 8 → pb q &&& 3 = 0) : ∀ (A : Tm) (m l : Nat) (vis : List Nat) (slo shi : Nat), wfQ sy pa A m l vis slo shi → ∀ (r : Nat → Int32), ∀ x ∈ evP kp fl sy pb pa A m r, gEv sy vis slo shi x := sorry
theorem orN_0 {E : List Ev} {s : Nat} (h : ∀ x ∈ E, x.1.1 ≠ s) : orN E s = 0 := sorry
theorem orN_3 {E : List Ev} {s : Nat} (h : ∀ x ∈ E, x.1.1 = s → x.2 &&& 3 = 0) : orN E s &&& 3 = 0 := sorry
end

