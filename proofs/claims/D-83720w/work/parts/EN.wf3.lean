/-! what is read is well formed: programs -/
def prm (k : Nat) : Prop := k = 3 ∨ k = 4 ∨ k = 6 ∨ k = 8
/-- a parameter -/
def prq (sy : List Sym) (s : Nat) : Prop := prm (srO sy s) ∧ (srO sy s = 6 → 1 ≤ szO sy s ∧ szO sy s ≤ 64) ∧ (srO sy s ≠ 6 → szO sy s = 0)
theorem syO_app {sy : List Sym} {x : Sym} (h : sy.length < 200) : syO (sy ++ [x]) sy.length = x := sorry
theorem wf_prm {fr : Nat} {sy : List Sym} {ts : List Tok} {x : List Sym × List Tok} (hl : sy.length ≤ 200) (h : prmS fr sy ts = .inr x) : sy.length < 200 ∧ x.1.length = sy.length + 1 ∧ sX sy x.1 ∧ prq x.1 sy.length := sorry
theorem prq.ex {sy sy2 : List Sym} {s : Nat} (a : prq sy s) (x : sX sy sy2) (hs : s < sy.length) (hl : sy.length ≤ 200) : prq sy2 s := sorry
theorem sX.len2 {a b : List Sym} (x : sX a b) : a.length ≤ b.length := sorry
theorem wf_prs {fr : Nat} : ∀ (m : Nat) (sy : List Sym) (ts : List Tok) (x : List Sym × List Tok), sy.length ≤ 200 → prsS fr m sy ts = .inr x → x.1.length ≤ 200 ∧ x.1.length ≤ sy.length + m ∧ sX sy x.1 ∧ ∀ s, sy.length ≤ s → s < x.1.length → prq x.1 s := sorry
theorem wf_glo {k z most has : Nat} {sy : List Sym} {ts : List Tok} {x : List Sym × List Tok} (hl : sy.length ≤ 200) (h : gloS k z most has sy ts = .inr x) : has ≠ most ∧ sy.length < 200 ∧ ∃ cs, x.1 = sy ++ [(cs, k, z)] := sorry
theorem wf_prh {np : Nat} {sy sy2 : List Sym} {ts : List Tok} (hl : sy.length ≤ 200) (h : prhS np sy ts = .inr sy2) : np ≠ 24 ∧ sy2.length ≤ 200 ∧ sy.length + 1 ≤ sy2.length ∧ sy2.length ≤ sy.length + 7 ∧ sX sy sy2 ∧ srO sy2 sy.length = 0 ∧ szO sy2 sy.length = np ∧ ∀ s, sy.length + 1 ≤ s → s < sy2.length → prq sy2 s := sorry
/-- a name of the whole program -/
def glo (np nl : Nat) (sy : List Sym) (s : Nat) : Prop := s = 200 ∨ s = 201 ∨ (s < sy.length ∧ ((srO sy s = 0 ∧ szO sy s < np) ∨ (srO sy s = 1 ∧ szO sy s < nl)))
theorem glo.ex {np nl np' nl' : Nat} {sy sy2 : List Sym} {s : Nat} (a : glo np nl sy s) (x : sX sy sy2) (hl : sy.length ≤ 200) (h1 : np ≤ np') (h2 : nl ≤ nl') : glo np' nl' sy2 s := sorry
def bdy (sy : List Sym) (pa : List (List Nat)) (nl k : Nat) (B : Tm) (r : Nat × Nat) : Prop := ∃ f n v l, pa[k]? = some (List.range' f n) ∧ n ≤ 6 ∧ r.1 + 1 = f ∧ (∀ i, i < n → prq sy (f + i)) ∧ (∀ s ∈ v, glo k nl sy s ∧ (s < r.1 ∨ 200 ≤ s)) ∧ l ≤ 17 ∧ wfQ sy (pa.take k) B 0 l (seeS v f n) (f + n) r.2
def rut (sy : List Sym) (pa : List (List Nat)) (nl : Nat) (B : Tm) (r : Nat × Nat) : Prop := ∃ v l, (∀ s ∈ v, glo pa.length nl sy s ∧ (s < r.1 ∨ 200 ≤ s)) ∧ l ≤ 17 ∧ wfQ sy pa B 0 l v r.1 r.2
def wfG (p : Pg) : Prop := wfI p.1 p.2.2.2.2.1 p.2.2.2.2.2.1 ∧ (∀ s ∈ p.2.2.2.2.2.1, glo p.1.length p.2.2.1.length p.2.2.2.2.1 s) ∧ p.2.1.length = p.1.length ∧ p.1.length ≤ 24 ∧ p.2.2.1.length ≤ 12 ∧ ∃ sg, rgs p.2.2.2.2.1.length p.2.1.length p.2.2.2.1 sg ∧ ∀ syF, sX p.2.2.2.2.1 syF → (∀ k B, p.2.1[k]? = some B → bdy syF p.1 p.2.2.1.length k B (sg (2 * k))) ∧ ∀ k x, p.2.2.2.1.find? (fun x => x.1 == k) = some x → rut syF p.1 p.2.2.1.length x.2 (sg (2 * k + 1))
theorem bdy.mono {sy : List Sym} {pa : List (List Nat)} {nl nl' k : Nat} {B : Tm} {r : Nat × Nat} (a : bdy sy pa nl k B r) (h : nl ≤ nl') (hl : sy.length ≤ 200) : bdy sy pa nl' k B r := sorry
theorem wf_clo {L L3 : List PL} (_ : cloS L = .inr L3) : True := sorry
theorem wf_prc {u : Nat} {ts : List Tok} {L L0 : List PL} {pa : List (List Nat)} {bs : List Tm} {lk : List (Nat × Nat)} {sy : List Sym} {vis : List Nat} {q : Pg} (I : wfG (pa, bs, lk, [], sy, vis, L0)) (h : prcS u ts L (pa, bs, lk, [], sy, vis, L0) = .inr q) : wfG q ∧ q.2.2.2.1 = [] := sorry
theorem wf_pcs : ∀ (m : Nat) (p q : Pg), wfG p → p.2.2.2.1 = [] → pcsS m p = .inr q → wfG q ∧ q.2.2.2.1 = [] := sorry
theorem wf_wir {has : Nat} {sy : List Sym} {ts : List Tok} {z : List Sym × Nat × Nat} (hl : sy.length ≤ 200) (h : wirS has sy ts = .inr z) : has ≠ 12 ∧ sy.length < 200 ∧ ∃ cs, z.1 = sy ++ [(cs, 1, has)] := sorry
theorem wf_lnk {pa : List (List Nat)} {bs : List Tm} {lk : List (Nat × Nat)} {sy : List Sym} {vis : List Nat} {L0 L2 : List PL} {z : List Sym × Nat × Nat} (I : wfG (pa, bs, lk, [], sy, vis, L0)) (h12 : lk.length ≠ 12) (hl : sy.length < 200) {cs : List Nat} (hz : z.1 = sy ++ [(cs, 1, lk.length)]) : wfG (pa, bs, lk ++ [z.2], [], z.1, sy.length :: vis, L2) := sorry
theorem wf_wrs : ∀ (m : Nat) (p q : Pg), wfG p → p.2.2.2.1 = [] → wrsS m p = .inr q → wfG q ∧ q.2.2.2.1 = [] := sorry
theorem wf_psr {rt : List (Nat × Tm)} {ts : List Tok} {k : Nat} (h : psrS rt ts = .inr k) : k ≤ 5 ∧ rt.find? (fun x => x.1 == k) = none := sorry
/-- a root is added -/
theorem wf_rt {k lv : Nat} {pa : List (List Nat)} {bs : List Tm} {lk : List (Nat × Nat)} {rt : List (Nat × Tm)} {sy : List Sym} {vis : List Nat} {L0 L1 L2 : List PL} {x : Tm × List Sym × List PL} (I : wfG (pa, bs, lk, rt, sy, vis, L0)) (hk : rt.find? (fun x => x.1 == k) = none) (h : proS pa fuel lv vis sy L1 = .inr x) : wfG (pa, bs, lk, rt ++ [(k, x.1)], x.2.1, vis, L2) := sorry
theorem wf_pls : ∀ (m : Nat) (p q : Pg), wfG p → plsS m p = .inr q → wfG q := sorry
theorem wf_plc {p q : Pg} (I : wfG p) (h : plcS p = .inr q) : wfG q := sorry
theorem wf_prg {L : List PL} {q : Pg} (h : prgS L = .inr q) : wfG q ∧ q.2.2.2.2.2.2 = [] := sorry
