/-! the twin's uses: branches of a PAR -/
theorem clB_cg {g : Nat → Bool} : ∀ {L M : List (List Ev)} {A B : List Ev}, oqL L M → (∀ k, orm A k = orm B k) → clB g A L = clB g B M := sorry
def cpS (h : mj_H) (Ls Es : List (List Ev)) : Prop := TR h Ls.flatten ∧ oqL Ls Es ∧ ∀ i, i < Ls.length → h.1 115 0 i = nI (Ls.take i).flatten.length
def sNk : List (List Ev) → Nat
  | [] => 0
  | E :: r => nk E + sNk r
theorem TR.mv15 {h h' : mj_H} {S : List Ev} (a : TR h S) (f : ∀ g i j, (g = 15 ∧ j = 61) ∨ (111 ≤ g ∧ g ≤ 114) → h'.1 g i j = h.1 g i j) : TR h' S := sorry
theorem cpS.enter {h : mj_H} {Ls Es : List (List Ev)} (a : cpS h Ls Es) : tS Ls.flatten [] (mj_sI (mj_sI h 115 0 Ls.length (nI Ls.flatten.length)) 15 0 62 (nI Ls.flatten.length)) := sorry
theorem cpS.leave {h h' : mj_H} {Ls Es : List (List Ev)} {E : List Ev} (a : cpS h Ls Es) (h1 : h'.1 115 0 Ls.length = nI Ls.flatten.length) (h2 : ∀ i, i < Ls.length → h'.1 115 0 i = h.1 115 0 i) (b : tS Ls.flatten E h') : ∃ S, cpS h' (Ls ++ [S]) (Es ++ [E]) ∧ S.length ≤ nk E := sorry
theorem cpS.row {h : mj_H} {Ls Es : List (List Ev)} (a : cpS h Ls Es) {i : Nat} {S : List Ev} (hi : Ls[i]? = some S) : (∀ t y, S[t]? = some y → rowT h ((Ls.take i).flatten.length + t) y) ∧ (Ls.take (i + 1)).flatten.length = (Ls.take i).flatten.length + S.length ∧ (Ls.take i).flatten.length + S.length ≤ 60000 := sorry
section
variable {sy : List Sym} {pa : List (List Nat)} {pb : Nat → Nat} {lk : List (Nat × Nat)} {pr : Option Nat} {vis : List Nat} {r : Nat → Int32} {u : Nat}
/-- the pairs -/
theorem t_prs {D k z : Nat} {Ls Es : List (List Ev)} {h : mj_H} (a : cpS h Ls Es) (hk : k < 7000) (hz : z + 2 < 1000) (h100 : h.1 100 0 k = nI (z + 2)) (h88 : h.1 88 0 k = nI u) (hL : Ls.length ≤ 8) (hlast : h.1 115 0 Ls.length = nI Ls.flatten.length) : ∀ (m i : Nat), i + m = Ls.length → ∃ h', mj_R mg (D + 2) mq_287 (148, [(3, vI (nI i)), (2, vI (nI Ls.length)), (0, vR 15 0), (1, vI (nI k))], [], h) = some (.inl (none, h')) ∧ h' = (if prC (mkF true z) (Ls.drop i) = true then mj_sI h 15 0 67 (mnI (h.1 15 0 67) (nI u)) else h) := sorry
theorem wfQ_1 {ps : Tm} {l lo hi : Nat} (h : wfQ sy pa ps 1 l vis lo hi) : (ps = .null ∧ lo ≤ hi) ∨ ∃ p ps' m, ps = .elem p ps' ∧ wfQ sy pa p 0 l vis lo m ∧ wfQ sy pa ps' 1 l vis m hi := sorry
theorem t_fin {D k z : Nat} {x3 : Int32} {Ls Es : List (List Ev)} {h : mj_H} (a : cpS h Ls Es) (hk : k < 7000) (hz : z + 2 < 1000) (h100 : h.1 100 0 k = nI (z + 2)) (h88 : h.1 88 0 k = nI u) (hL : Ls.length ≤ 8) : mP (mj_R mg (D + 2) mq_287 (136, [(3, vI x3), (2, vI (nI Ls.length)), (0, vR 15 0), (1, vI (nI k))], [], h)) (fun v h' => v = none ∧ gTv 0 0 h h' ∧ h'.1 15 0 67 = mnL (h.1 15 0 67) (agB (clB (mkF true z) [] Es) u)) := sorry
theorem t_cp1 {D k l : Nat} {hi shi : Nat} (hv : vOK sy lk vis) (hl0 : l ≤ 17) (hs1 : shi ≤ sy.length) (hs2 : sy.length ≤ 200) (hD : 3 * l + 105 ≤ D) (hhi : hi ≤ 7000) {Q : Option mj_V → mj_H → Prop} : ∀ (n : Nat) (ps : Tm) (slo lo : Nat) (x : Int32) (h : mj_H) (Ls Es : List (List Ev)), tmN ps = n → wfQ sy pa ps 1 l vis slo shi → vLt sy vis slo → tQ pa lo hi h ps 1 0 0 x → 1 ≤ lo → tUK sy pa pb lk pr h → tcK sy vis r h → cpS h Ls Es → Ls.length + n ≤ 8 → Ls.flatten.length + sNk (brs kpT false sy pb pa ps r) ≤ 60000 →
    (∀ (h2 : mj_H) (x3 : Int32) (Ls2 : List (List Ev)), gTv slo shi h h2 → h2.1 15 0 67 = h.1 15 0 67 → cpS h2 Ls2 (Es ++ brs kpT false sy pb pa ps r) → Ls2.length = Ls.length + n → mP (mj_R mg (D + 1) mq_287 (136, [(3, vI x3), (2, vI (nI Ls2.length)), (0, vR 15 0), (1, vI (nI k))], [], h2)) Q) →
    mP (mj_R mg (D + 1) mq_287 (25, [(3, vI x), (2, vI (nI Ls.length)), (0, vR 15 0), (1, vI (nI k))], [], h)) Q := sorry
end

