/-! what is read is well formed: proS -/
theorem sX.syO {sy syF : List Sym} {vis : List Nat} (x : sX sy syF) (hv : ∀ s ∈ vis, inSy sy s) (hl : sy.length ≤ 200) : eqV sy syF vis := sorry
/-- what has to hold ahead of a process -/
def wfI (pa : List (List Nat)) (sy : List Sym) (vis : List Nat) : Prop := sy.length ≤ 200 ∧ (∀ s ∈ vis, inSy sy s) ∧ (∀ s ∈ vis, srO sy s = 0 → szO sy s < pa.length) ∧ ∀ p, p < pa.length → ∀ q ∈ pa.getD p [], inSy sy q
theorem wfI.ex {pa : List (List Nat)} {sy sy2 : List Sym} {vis : List Nat} (a : wfI pa sy vis) (x : sX sy sy2) (hl : sy2.length ≤ 200) : wfI pa sy2 vis := sorry
theorem wfI.cons {pa : List (List Nat)} {sy : List Sym} {vis : List Nat} {s : Nat} (a : wfI pa sy vis) (hs : s < sy.length) (h0 : srO sy s ≠ 0) : wfI pa sy (s :: vis) := sorry
theorem wfI.see {pa : List (List Nat)} {sy : List Sym} {vis : List Nat} {f : Nat} (a : wfI pa sy vis) : ∀ m, f + m ≤ sy.length → (∀ k, k < m → srO sy (f + k) ≠ 0) → wfI pa sy (seeS vis f m) := sorry
theorem wfI.pa {pa : List (List Nat)} {sy syF : List Sym} {vis : List Nat} (a : wfI pa sy vis) (x : sX sy syF) : ∀ p, p < pa.length → ∀ q ∈ pa.getD p [], syO syF q = syO sy q := sorry
theorem wf_new {fr k z : Nat} {sy : List Sym} {ts : List Tok} {x : List Sym × List Tok} (hl : sy.length ≤ 200) (h : newS fr k z sy ts = .inr x) : sy.length < 200 ∧ ∃ cs, x.1 = sy ++ [(cs, k, z)] := sorry
theorem wf_nms {fr k z : Nat} : ∀ (m : Nat) (sy : List Sym) (ts : List Tok) (x : List Sym × List Tok), sy.length ≤ 200 → nmsS fr k z m sy ts = .inr x → x.1.length ≤ 200 ∧ sy.length < x.1.length ∧ sX sy x.1 ∧ ∀ s, sy.length ≤ s → s < x.1.length → srO x.1 s = k ∧ szO x.1 s = z := sorry
theorem wf_dec {sy sy2 : List Sym} {ts : List Tok} (hl : sy.length ≤ 200) (h : decS sy ts = .inr sy2) : sy2.length ≤ 200 ∧ sy.length < sy2.length ∧ sX sy sy2 ∧ ∀ s, sy.length ≤ s → s < sy2.length → dcl sy2 s := sorry
theorem wf_num {lo hi : Nat} {ts : List Tok} {x : Nat × List Tok} (h : numS lo hi ts = .inr x) : lo ≤ x.1 ∧ x.1 ≤ hi := sorry
/-- what a process gives -/
def wfP (pa : List (List Nat)) (P : PrP) : Prop := ∀ (lv : Nat) (vis : List Nat) (sy : List Sym) (L : List PL) (x : Tm × List Sym × List PL), wfI pa sy vis → P lv vis sy L = .inr x → sX sy x.2.1 ∧ x.2.1.length ≤ 200 ∧ lv ≤ 15 ∧ ∀ syF, sX x.2.1 syF → wfQ syF pa x.1 0 (17 - lv) vis sy.length x.2.1.length
section
variable {pa : List (List Nat)} {P : PrP}
theorem wf_blw (hP : wfP pa P) {lv least most : Nat} {vis : List Nat} : ∀ (m many : Nat) (sy : List Sym) (L : List PL) (x : Tm × List Sym × List PL), wfI pa sy vis → blwS P lv vis least most m many sy L = .inr x → sX sy x.2.1 ∧ x.2.1.length ≤ 200 ∧ (least ≤ many + tmN x.1) ∧ (many ≤ most → many + tmN x.1 ≤ most) ∧ ∀ syF, sX x.2.1 syF → wfQ syF pa x.1 1 (17 - lv) vis sy.length x.2.1.length := sorry
theorem wf_ifs (hP : wfP pa P) {lv : Nat} {vis : List Nat} : ∀ (m : Nat) (more : Bool) (sy : List Sym) (L : List PL) (x : Tm × List Sym × List PL), wfI pa sy vis → ifsS P lv vis m more sy L = .inr x → sX sy x.2.1 ∧ x.2.1.length ≤ 200 ∧ (more = true → 1 ≤ tmN x.1) ∧ ∀ syF, sX x.2.1 syF → wfQ syF pa x.1 2 (16 - lv) vis sy.length x.2.1.length := sorry
theorem wf_alt (hP : wfP pa P) {lv : Nat} {vis : List Nat} : ∀ (m many : Nat) (sy : List Sym) (L : List PL) (x : Tm × List Sym × List PL), wfI pa sy vis → altS P lv vis m many sy L = .inr x → sX sy x.2.1 ∧ x.2.1.length ≤ 200 ∧ (1 ≤ many + tmN x.1) ∧ (many ≤ 8 → many + tmN x.1 ≤ 8) ∧ ∀ syF, sX x.2.1 syF → wfQ syF pa x.1 3 (16 - lv) vis sy.length x.2.1.length := sorry
theorem wf_con (hP : wfP pa P) {lv u : Nat} {vis : List Nat} {sy : List Sym} {ts : List Tok} {L : List PL} {x : Tm × List Sym × List PL} (hlv : lv ≤ 15) (I : wfI pa sy vis) (h : conS P lv vis sy u ts L = .inr x) : sX sy x.2.1 ∧ x.2.1.length ≤ 200 ∧ ∀ syF, sX x.2.1 syF → wfQ syF pa (.div (.index u) x.1) 0 (17 - lv) vis sy.length x.2.1.length := sorry
end
theorem wf_pro (pa : List (List Nat)) : ∀ m, wfP pa (proS pa m) := sorry
