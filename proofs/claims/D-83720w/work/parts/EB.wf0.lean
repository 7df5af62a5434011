/-! what is read is well formed: definitions, expressions -/
theorem bnd_ok {ε α β : Type} {x : Sum ε α} {f : α → Sum ε β} {y : β} (h : bnd x f = .inr y) : ∃ a, x = .inr a ∧ f a = .inr y := sorry
theorem lft_ok {α : Type} {u : Nat} {x : Rs α} {a : α} (h : lft u x = .inr a) : x = .inr a := sorry
theorem tkS_ok {b : Bool} {ts r : List Tok} (h : tkS b ts = .inr r) : b = true ∧ r = ts.tail := sorry
theorem chkS_ok {b : Bool} {k p : Nat} {z : Unit} (h : chkS b k p = .inr z) : b = true := sorry
def wfE (sy : List Sym) (vis : List Nat) : Tm → Prop
  | .int _ => True
  | .arg s => s ∈ vis ∧ sVal (srO sy s) = true
  | .elem (.arg s) e => s ∈ vis ∧ sArr (srO sy s) = true ∧ wfE sy vis e
  | .length e => wfE sy vis e
  | .sum e => wfE sy vis e
  | .old e => wfE sy vis e
  | .add (.index o) (.sub x y) => (∃ k, isO k = true ∧ opC k = o) ∧ wfE sy vis x ∧ wfE sy vis y
  | _ => False
def eH : Tm → Nat
  | .elem (.arg _) e => eH e + 1
  | .length e => eH e + 1
  | .sum e => eH e + 1
  | .old e => eH e + 1
  | .add (.index _) (.sub x y) => max (eH x) (eH y) + 1
  | _ => 0
def wfX (sy : List Sym) (vis : List Nat) (e : Tm) : Prop := wfE sy vis e ∧ eH e ≤ 20
def wfV (sy : List Sym) (vis : List Nat) : Tm → Prop
  | .arg s => s ∈ vis ∧ sVar (srO sy s) = true
  | .elem (.arg s) e => s ∈ vis ∧ sArr (srO sy s) = true ∧ wfX sy vis e
  | _ => False
def wfC (sy : List Sym) (vis : List Nat) : Tm → Prop
  | .arg s => s ∈ vis ∧ sChn (srO sy s) = true
  | .elem (.arg s) e => s ∈ vis ∧ srO sy s = 9 ∧ wfX sy vis e
  | _ => False
/-- the names that are seen are as they will be -/
def eqV (sy syF : List Sym) (vis : List Nat) : Prop := ∀ s ∈ vis, syO syF s = syO sy s
section
variable {sy syF : List Sym} {vis : List Nat}
/-- anything that a name begins -/
def wfT (sy : List Sym) (vis : List Nat) (h : Nat) : Tm → Prop
  | .arg s => s ∈ vis
  | .elem (.arg s) e => s ∈ vis ∧ wfE sy vis e ∧ eH e + 1 ≤ h
  | _ => False
theorem wf_thOf {EX : ExP} {s place w br H : Nat} {ts : List Tok} {x : Tm × List Tok} (hEX : ∀ br ts x, EX br ts = .inr x → wfE syF vis x.1 ∧ eH x.1 ≤ H) (hs : s ∈ vis) (h : thOf EX sy s place w br ts = .inr x) : wfT syF vis (H + 1) x.1 ∧ nmT x.1 = s ∧ ((∃ e, x.1 = .elem (.arg s) e ∧ ((sArr (srO sy s) && w != 2) || (srO sy s == 9 && w != 1)) = true) ∨ x.1 = .arg s) := sorry
theorem wf_knS {ts : List Tok} {x : Nat × List Tok} (h : knS sy vis ts = .inr x) : x.1 ∈ vis := sorry
theorem wf_val {H : Nat} {a : Tm} (hE : eqV sy syF vis) (h1 : wfT syF vis H a) (h2 : okVal sy a = true) : wfE syF vis a ∧ eH a ≤ H := sorry
theorem wf_var {a : Tm} (hE : eqV sy syF vis) (h1 : wfT syF vis 20 a) (h2 : okVar sy a = true) : wfV syF vis a := sorry
theorem wf_chn {a : Tm} (hE : eqV sy syF vis) (h1 : wfT syF vis 20 a) (h2 : okChn sy a = true) : wfC syF vis a := sorry
theorem wf_opd {EX : ExP} {br H : Nat} {ts : List Tok} {x : Tm × List Tok} (hE : eqV sy syF vis) (hEX : ∀ br ts x, EX br ts = .inr x → wfE syF vis x.1 ∧ eH x.1 ≤ H) (h : opd EX sy vis br ts = .inr x) : wfE syF vis x.1 ∧ eH x.1 ≤ H + 1 := sorry
theorem wf_beh {EX : ExP} {br H : Nat} {a : Tm} {ts : List Tok} {x : Tm × List Tok} (hE : eqV sy syF vis) (hEX : ∀ br ts x, EX br ts = .inr x → wfE syF vis x.1 ∧ eH x.1 ≤ H) (ha : wfE syF vis a ∧ eH a ≤ H + 1) (h : behS EX sy vis br a ts = .inr x) : wfE syF vis x.1 ∧ eH x.1 ≤ H + 2 := sorry
theorem wf_exp (hE : eqV sy syF vis) : ∀ (m br : Nat) (ts : List Tok) (x : Tm × List Tok), expS sy vis m br ts = .inr x → wfE syF vis x.1 ∧ eH x.1 ≤ 2 * m := sorry
theorem wf_exT {br : Nat} {ts : List Tok} {x : Tm × List Tok} (hE : eqV sy syF vis) (h : exT sy vis br ts = .inr x) : wfX syF vis x.1 := sorry
theorem wf_thT {w br : Nat} {ts : List Tok} {x : Tm × List Tok} (hE : eqV sy syF vis) (h : thT sy vis w br ts = .inr x) : wfT syF vis 20 x.1 ∧ nmT x.1 ∈ vis := sorry
theorem wf_refV {w br : Nat} {ts : List Tok} {x : Tm × List Tok} (hE : eqV sy syF vis) (h : refS okVar sy vis w br ts = .inr x) : wfV syF vis x.1 := sorry
theorem wf_refC {w br : Nat} {ts : List Tok} {x : Tm × List Tok} (hE : eqV sy syF vis) (h : refS okChn sy vis w br ts = .inr x) : wfC syF vis x.1 := sorry
end

