/-! the twin's uses: rows -/
def TR (h : mj_H) (S : List Ev) : Prop := h.1 15 0 61 = nI S.length ∧ S.length ≤ 60000 ∧ ∀ k e, S[k]? = some e → h.1 111 0 k = nI (tw e.1.1) ∧ h.1 113 0 k = bI e.1.2.1 ∧ h.1 112 0 k = e.1.2.2 ∧ h.1 114 0 k = nI e.2 ∧ okEv e
def gTu (h h' : mj_H) : Prop := (∀ g i j, ¬ ((g = 15 ∧ j = 61) ∨ (111 ≤ g ∧ g ≤ 114)) → h'.1 g i j = h.1 g i j) ∧ h'.2 = h.2
theorem gTu.rf (h : mj_H) : gTu h h := sorry
theorem gTu.tr {h h1 h2 : mj_H} (a : gTu h h1) (b : gTu h1 h2) : gTu h h2 := sorry
theorem gTu.k {lo hi : Nat} {h h' : mj_H} (f : gTu h h') : tK lo hi h h' := sorry
theorem tw_i {a b : Nat} (ha : a < 202) (hb : b < 202) : tw a = tw b ↔ a = b := sorry
theorem tw_l {a : Nat} (ha : a < 202) : tw a < 260 := sorry
theorem TR.at {h : mj_H} {P S : List Ev} {x : Ev} (a : TR h (P ++ x :: S)) : h.1 111 0 P.length = nI (tw x.1.1) ∧ h.1 113 0 P.length = bI x.1.2.1 ∧ h.1 112 0 P.length = x.1.2.2 ∧ h.1 114 0 P.length = nI x.2 ∧ okEv x := sorry
theorem TR.push {h : mj_H} {P : List Ev} {e : Ev} (a : TR h P) (he : okEv e) (hl : P.length + 1 ≤ 60000) : TR (mj_sI (mj_sI (mj_sI (mj_sI (mj_sI h 111 0 P.length (nI (tw e.1.1))) 112 0 P.length e.1.2.2) 113 0 P.length (bI e.1.2.1)) 114 0 P.length (nI e.2)) 15 0 61 (nI (P.length + 1))) (P ++ [e]) := sorry
theorem TR.upd {h : mj_H} {P S : List Ev} {x : Ev} {m : Nat} (a : TR h (P ++ x :: S)) (hm : m < 16) : TR (mj_sI h 114 0 P.length (nI m)) (P ++ (x.1, m) :: S) := sorry
theorem t_use1 {D : Nat} {e : Ev} (he : okEv e) : ∀ (S P : List Ev) (h : mj_H), TR h (P ++ S) → (P ++ useL S e).length ≤ 60000 → mP (mj_R mg D mq_276 (12, [(5, vI (nI P.length)), (0, vR 15 0), (1, vI (nI (tw e.1.1))), (2, vI e.1.2.2), (3, vI (bI e.1.2.1)), (4, vI (nI e.2))], [], h)) (fun v h' => v = none ∧ gTu h h' ∧ TR h' (P ++ useL S e)) := sorry
/-- rows S of uses E, those of nothing left out -/
def tsg (S E : List Ev) : Prop := (kys S).Nodup ∧ (∀ k, k ∈ kys S → k ∈ kys E) ∧ ∀ k, orm S k = orm E k
theorem tsg.nil : tsg [] [] := sorry
theorem tsg.len {S E : List Ev} (h : tsg S E) : S.length ≤ nk E := sorry
theorem tsg.use {S E : List Ev} (h : tsg S E) (e : Ev) : tsg (useL S e) (E ++ [e]) := sorry
theorem tsg.no {S E : List Ev} (h : tsg S E) {e : Ev} (h0 : e.2 = 0) : tsg S (E ++ [e]) := sorry
theorem tsg.cg {S E F : List Ev} (h : tsg S E) (hk : ∀ k, k ∈ kys E → k ∈ kys F) (ho : ∀ k, orm E k = orm F k) : tsg S F := sorry
/-- alike but for their order -/
def evq (E F : List Ev) : Prop := (∀ k, k ∈ kys E ↔ k ∈ kys F) ∧ ∀ k, orm E k = orm F k
theorem evq.rf (E : List Ev) : evq E E := sorry
theorem evq.sm {E F : List Ev} (h : evq E F) : evq F E := sorry
theorem evq.tr {E F G : List Ev} (a : evq E F) (b : evq F G) : evq E G := sorry
theorem evq.ap {E F A B : List Ev} (a : evq E F) (b : evq A B) : evq (E ++ A) (F ++ B) := sorry
theorem evq.sw (A B : List Ev) : evq (A ++ B) (B ++ A) := sorry
theorem evq.dup (A B : List Ev) : evq (A ++ B ++ A) (A ++ B) := sorry
theorem evq.nk {E F : List Ev} (h : evq E F) : nk E = nk F := sorry
theorem tsg.eq {S E F : List Ev} (h : tsg S E) (q : evq E F) : tsg S F := sorry
def tS (pre E : List Ev) (h : mj_H) : Prop := (∃ S, TR h (pre ++ S) ∧ tsg S E) ∧ h.1 15 0 62 = nI pre.length
theorem tS.eq {pre E F : List Ev} {h : mj_H} (a : tS pre E h) (q : evq E F) : tS pre F h := sorry
theorem t_use {D : Nat} {pre E : List Ev} {e : Ev} {h : mj_H} (a : tS pre E h) (he : okEv e) (hl : pre.length + nk (E ++ [e]) ≤ 60000) : mP (mj_R mg D mq_276 (0, [(0, vR 15 0), (1, vI (nI (tw e.1.1))), (2, vI e.1.2.2), (3, vI (bI e.1.2.1)), (4, vI (nI e.2))], [], h)) (fun v h' => v = none ∧ gTu h h' ∧ tS pre (E ++ [e]) h') := sorry
