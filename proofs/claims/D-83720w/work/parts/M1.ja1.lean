section
variable {K : Nat} {q : Pg} {S : Sy}
theorem SI_5 (c : SI (xQ q) (gQ q) K S) : ∀ p, p < 6 → (gQ q).1 p = true → (S.1 p).1 5 = nI (16 + (bQ q p).2.1) := fun p hp hg => by
  obtain ⟨g, Q, i, -⟩ := c.1 p hp hg
  exact i.1.1
theorem SI_4 (c : SI (xQ q) (gQ q) K S) (hK : K < 2 ^ 31) : 0 ≤ S.2.1.1 4 := by
  obtain ⟨k, e, hk⟩ := c.2.2.1
  rw [e]
  exact nI_le (a := 0) (Nat.zero_le _) (by omega)
end
/-! THE LAW, second part: what only asks -/
section
variable {K : Nat} {h : mj_H}
theorem j_processor (J : JW K h) (hK : K < 2 ^ 31) (p : Int32) (x : Int32) : jA [3, 4, 1] K (fun h => mj_R mg 1322 mq_15 (0, [(0, vR 2 0), (1, vI p), (2, vI x)], [], h)) (fun h => mj_R mg 1322 mq_356 (0, [(0, vR 15 0), (1, vI p), (2, vI x)], [], h)) h := by
  have J0 := J
  obtain ⟨t, n, F, st, S, ⟨a1, a2, a3, a4⟩, ⟨b1, b2, b3, b4, b5⟩, c⟩ := J
  cases st with
  | none => exact j_ask (cd := cdA) (x := .inr 3) J0 (k_no15 (d := 1320) a4) (y_no356 (d := 1321) b5) (fun e he => by cases he; exact ⟨0, rfl, rfl⟩)
  | some q =>
    obtain ⟨g1, g2, g3, g4⟩ := a4
    obtain ⟨y1, y2, y3, y4, y5⟩ := b5
    obtain ⟨⟨o1, o2, o3, o4, o5, o6⟩, c2, c3⟩ := c
    refine j_ask (cd := cdA) (x := aPr (gQ q) (bQ q) p x) J0 (k_aPr (d := 1320) g1 g2) (y_aPr (d := 1320) y1 y2) (fun e he => ?_)
    unfold aPr at he
    repeat' split at he
    all_goals first | (cases he; done) | (cases he; exact ⟨0, rfl, rfl⟩) | (cases he; exact ⟨1, rfl, rfl⟩) | (cases he; exact ⟨2, rfl, rfl⟩)
theorem j_code (J : JW K h) (hK : K < 2 ^ 31) (p : Int32) (x : Int32) : jA [3, 4, 2] K (fun h => mj_R mg 1322 mq_16 (0, [(0, vR 2 0), (1, vI p), (2, vI x)], [], h)) (fun h => mj_R mg 1322 mq_358 (0, [(0, vR 15 0), (1, vI p), (2, vI x)], [], h)) h := by
  have J0 := J
  obtain ⟨t, n, F, st, S, ⟨a1, a2, a3, a4⟩, ⟨b1, b2, b3, b4, b5⟩, c⟩ := J
  cases st with
  | none => exact j_ask (cd := cdA) (x := .inr 3) J0 (k_no16 (d := 1320) a4) (y_no358 (d := 1321) b5) (fun e he => by cases he; exact ⟨0, rfl, rfl⟩)
  | some q =>
    obtain ⟨g1, g2, g3, g4⟩ := a4
    obtain ⟨y1, y2, y3, y4, y5⟩ := b5
    obtain ⟨⟨o1, o2, o3, o4, o5, o6⟩, c2, c3⟩ := c
    refine j_ask (cd := cdA) (x := aCd (gQ q) (bQ q) p x) J0 (k_aCd (d := 1320) g1 g2 o2 o3) (y_aCd (d := 1319) y1 y2 o2 o3) (fun e he => ?_)
    unfold aCd at he
    repeat' split at he
    all_goals first | (cases he; done) | (cases he; exact ⟨0, rfl, rfl⟩) | (cases he; exact ⟨1, rfl, rfl⟩) | (cases he; exact ⟨2, rfl, rfl⟩)
theorem j_instruction (J : JW K h) (hK : K < 2 ^ 31) (p : Int32) (k : Int32) (x : Int32) : jA [3, 4, 2, 1] K (fun h => mj_R mg 1322 mq_17 (0, [(0, vR 2 0), (1, vI p), (2, vI k), (3, vI x)], [], h)) (fun h => mj_R mg 1322 mq_359 (0, [(0, vR 15 0), (1, vI p), (2, vI k), (3, vI x)], [], h)) h := by
  have J0 := J
  obtain ⟨t, n, F, st, S, ⟨a1, a2, a3, a4⟩, ⟨b1, b2, b3, b4, b5⟩, c⟩ := J
  cases st with
  | none => exact j_ask (cd := cdI) (x := .inr 3) J0 (k_no17 (d := 1320) a4) (y_no359 (d := 1321) b5) (fun e he => by cases he; exact ⟨0, rfl, rfl⟩)
  | some q =>
    obtain ⟨g1, g2, g3, g4⟩ := a4
    obtain ⟨y1, y2, y3, y4, y5⟩ := b5
    obtain ⟨⟨o1, o2, o3, o4, o5, o6⟩, c2, c3⟩ := c
    refine j_ask (cd := cdI) (x := aIn (gQ q) (bQ q) p k x) J0 (k_aIn (d := 1320) g1 g2 o2 o3 o4) (y_aIn (d := 1319) y1 y2 o2 o3 o4) (fun e he => ?_)
    unfold aIn at he
    repeat' split at he
    all_goals first | (cases he; done) | (cases he; exact ⟨0, rfl, rfl⟩) | (cases he; exact ⟨1, rfl, rfl⟩) | (cases he; exact ⟨2, rfl, rfl⟩) | (cases he; exact ⟨3, rfl, rfl⟩)
theorem j_link (J : JW K h) (hK : K < 2 ^ 31) (p : Int32) (x : Int32) : jA [3, 2, 1] K (fun h => mj_R mg 1322 mq_18 (0, [(0, vR 2 0), (1, vI p), (2, vI x)], [], h)) (fun h => mj_R mg 1322 mq_360 (0, [(0, vR 15 0), (1, vI p), (2, vI x)], [], h)) h := by
  have J0 := J
  obtain ⟨t, n, F, st, S, ⟨a1, a2, a3, a4⟩, ⟨b1, b2, b3, b4, b5⟩, c⟩ := J
  cases st with
  | none => exact j_ask (cd := cdL) (x := .inr 3) J0 (k_no18 (d := 1321) a4) (y_no360 (d := 1321) b5) (fun e he => by cases he; exact ⟨0, rfl, rfl⟩)
  | some q =>
    obtain ⟨g1, g2, g3, g4⟩ := a4
    obtain ⟨y1, y2, y3, y4, y5⟩ := b5
    obtain ⟨⟨o1, o2, o3, o4, o5, o6⟩, c2, c3⟩ := c
    refine j_ask (cd := cdL) (x := aLk (gQ q) S p x) J0 (k_aLk (d := 1321) (a3 _) g1) (y_aLk (d := 1321) y3 y1) (fun e he => ?_)
    unfold aLk at he
    repeat' split at he
    all_goals first | (cases he; done) | (cases he; exact ⟨0, rfl, rfl⟩) | (cases he; exact ⟨1, rfl, rfl⟩) | (cases he; exact ⟨2, rfl, rfl⟩)
theorem j_outcome (J : JW K h) (hK : K < 2 ^ 31)  : jA [3] K (fun h => mj_R mg 1322 mq_26 (0, [(0, vR 2 0)], [], h)) (fun h => mj_R mg 1322 mq_355 (0, [(0, vR 15 0)], [], h)) h := by
  have J0 := J
  obtain ⟨t, n, F, st, S, ⟨a1, a2, a3, a4⟩, ⟨b1, b2, b3, b4, b5⟩, c⟩ := J
  cases st with
  | none => exact j_ask (cd := cdB) (x := .inr 3) J0 (k_no26 (d := 1321) a4) (y_no355 (d := 1321) b5) (fun e he => by cases he; exact ⟨0, rfl, rfl⟩)
  | some q =>
    obtain ⟨g1, g2, g3, g4⟩ := a4
    obtain ⟨y1, y2, y3, y4, y5⟩ := b5
    obtain ⟨⟨o1, o2, o3, o4, o5, o6⟩, c2, c3⟩ := c
    exact j_ask (cd := cdB) (x := (.inl (sOut (gQ q) S) : An)) J0 (k_out1 (d := 1321) (a3 _) g1) (y_aOut (d := 1321) y3 y1) (fun e he => by cases he)
theorem j_core (J : JW K h) (hK : K < 2 ^ 31) (p : Int32) (x : Int32) : jA [3, 4, 1] K (fun h => mj_R mg 1322 mq_27 (0, [(0, vR 2 0), (1, vI p), (2, vI x)], [], h)) (fun h => mj_R mg 1322 mq_361 (0, [(0, vR 15 0), (1, vI p), (2, vI x)], [], h)) h := by
  have J0 := J
  obtain ⟨t, n, F, st, S, ⟨a1, a2, a3, a4⟩, ⟨b1, b2, b3, b4, b5⟩, c⟩ := J
  cases st with
  | none => exact j_ask (cd := cdA) (x := .inr 3) J0 (k_no27 (d := 1320) a4) (y_no361 (d := 1321) b5) (fun e he => by cases he; exact ⟨0, rfl, rfl⟩)
  | some q =>
    obtain ⟨g1, g2, g3, g4⟩ := a4
    obtain ⟨y1, y2, y3, y4, y5⟩ := b5
    obtain ⟨⟨o1, o2, o3, o4, o5, o6⟩, c2, c3⟩ := c
    refine j_ask (cd := cdA) (x := aCo (gQ q) S p x) J0 (k_aCo (d := 1320) (a3 _) g1 c2) (y_aCo (d := 1320) y3 y1) (fun e he => ?_)
    unfold aCo at he
    repeat' split at he
    all_goals first | (cases he; done) | (cases he; exact ⟨0, rfl, rfl⟩) | (cases he; exact ⟨1, rfl, rfl⟩) | (cases he; exact ⟨2, rfl, rfl⟩)
theorem j_ready (J : JW K h) (hK : K < 2 ^ 31) (p : Int32) (x : Int32) : jA [3, 4, 2] K (fun h => mj_R mg 1322 mq_29 (0, [(0, vR 2 0), (1, vI p), (2, vI x)], [], h)) (fun h => mj_R mg 1322 mq_362 (0, [(0, vR 15 0), (1, vI p), (2, vI x)], [], h)) h := by
  have J0 := J
  obtain ⟨t, n, F, st, S, ⟨a1, a2, a3, a4⟩, ⟨b1, b2, b3, b4, b5⟩, c⟩ := J
  cases st with
  | none => exact j_ask (cd := cdA) (x := .inr 3) J0 (k_no29 (d := 1320) a4) (y_no362 (d := 1321) b5) (fun e he => by cases he; exact ⟨0, rfl, rfl⟩)
  | some q =>
    obtain ⟨g1, g2, g3, g4⟩ := a4
    obtain ⟨y1, y2, y3, y4, y5⟩ := b5
    obtain ⟨⟨o1, o2, o3, o4, o5, o6⟩, c2, c3⟩ := c
    refine j_ask (cd := cdA) (x := aRd (gQ q) S p x) J0 (k_aRd (d := 1320) (a3 _) g1) (y_aRd (d := 1320) y3 y1) (fun e he => ?_)
    unfold aRd at he
    repeat' split at he
    all_goals first | (cases he; done) | (cases he; exact ⟨0, rfl, rfl⟩) | (cases he; exact ⟨1, rfl, rfl⟩) | (cases he; exact ⟨2, rfl, rfl⟩)
theorem j_word (J : JW K h) (hK : K < 2 ^ 31) (p : Int32) (x : Int32) : jA [3, 4, 2] K (fun h => mj_R mg 1322 mq_30 (0, [(0, vR 2 0), (1, vI p), (2, vI x)], [], h)) (fun h => mj_R mg 1322 mq_363 (0, [(0, vR 15 0), (1, vI p), (2, vI x)], [], h)) h := by
  have J0 := J
  obtain ⟨t, n, F, st, S, ⟨a1, a2, a3, a4⟩, ⟨b1, b2, b3, b4, b5⟩, c⟩ := J
  cases st with
  | none => exact j_ask (cd := cdA) (x := .inr 3) J0 (k_no30 (d := 1320) a4) (y_no363 (d := 1321) b5) (fun e he => by cases he; exact ⟨0, rfl, rfl⟩)
  | some q =>
    obtain ⟨g1, g2, g3, g4⟩ := a4
    obtain ⟨y1, y2, y3, y4, y5⟩ := b5
    obtain ⟨⟨o1, o2, o3, o4, o5, o6⟩, c2, c3⟩ := c
    refine j_ask (cd := cdA) (x := aWd (gQ q) (bQ q) S p x) J0 (k_aWd (d := 1320) (a3 _) g1 g2 o2) (y_aWd (d := 1320) y3 y1 y2 o2 (SI_5 c3)) (fun e he => ?_)
    unfold aWd at he
    repeat' split at he
    all_goals first | (cases he; done) | (cases he; exact ⟨0, rfl, rfl⟩) | (cases he; exact ⟨1, rfl, rfl⟩) | (cases he; exact ⟨2, rfl, rfl⟩)
theorem j_output (J : JW K h) (hK : K < 2 ^ 31) (p : Int32) : jA [3, 2] K (fun h => mj_R mg 1322 mq_31 (0, [(0, vR 2 0), (1, vI p)], [], h)) (fun h => mj_R mg 1322 mq_364 (0, [(0, vR 15 0), (1, vI p)], [], h)) h := by
  have J0 := J
  obtain ⟨t, n, F, st, S, ⟨a1, a2, a3, a4⟩, ⟨b1, b2, b3, b4, b5⟩, c⟩ := J
  cases st with
  | none => exact j_ask (cd := cdB) (x := .inr 3) J0 (k_no31 (d := 1321) a4) (y_no364 (d := 1321) b5) (fun e he => by cases he; exact ⟨0, rfl, rfl⟩)
  | some q =>
    obtain ⟨g1, g2, g3, g4⟩ := a4
    obtain ⟨y1, y2, y3, y4, y5⟩ := b5
    obtain ⟨⟨o1, o2, o3, o4, o5, o6⟩, c2, c3⟩ := c
    refine j_ask (cd := cdB) (x := aOu S p) J0 (k_aOu (d := 1321) (a3 _) g1 (SI_4 c3 hK)) (y_aOu (d := 1321) y3 y1 (SI_4 c3 hK)) (fun e he => ?_)
    unfold aOu at he
    repeat' split at he
    all_goals first | (cases he; done) | (cases he; exact ⟨0, rfl, rfl⟩) | (cases he; exact ⟨1, rfl, rfl⟩)
theorem j_about (J : JW K h) (hK : K < 2 ^ 31) (p : Int32) : jA [3, 1] K (fun h => mj_R mg 1322 mq_32 (0, [(0, vR 2 0), (1, vI p)], [], h)) (fun h => mj_R mg 1322 mq_365 (0, [(0, vR 15 0), (1, vI p)], [], h)) h := by
  have J0 := J
  obtain ⟨t, n, F, st, S, ⟨a1, a2, a3, a4⟩, ⟨b1, b2, b3, b4, b5⟩, c⟩ := J
  cases st with
  | none => exact j_ask (cd := cdB) (x := .inr 3) J0 (k_no32 (d := 1321) a4) (y_no365 (d := 1321) b5) (fun e he => by cases he; exact ⟨0, rfl, rfl⟩)
  | some q =>
    obtain ⟨g1, g2, g3, g4⟩ := a4
    obtain ⟨y1, y2, y3, y4, y5⟩ := b5
    obtain ⟨⟨o1, o2, o3, o4, o5, o6⟩, c2, c3⟩ := c
    refine j_ask (cd := cdB) (x := aAb (gQ q) S (nI q.2.2.2.2.1.length, nI q.1.length) p) J0 (k_aAb (d := 1321) (N := (nI q.2.2.2.2.1.length, nI q.1.length)) (a3 _) g1 ⟨g3, g4⟩) (y_aAb (d := 1321) (N := (nI q.2.2.2.2.1.length, nI q.1.length)) y3 y1 ⟨y4, y5⟩) (fun e he => ?_)
    unfold aAb at he
    repeat' split at he
    all_goals first | (cases he; done) | (cases he; exact ⟨0, rfl, rfl⟩) | (cases he; exact ⟨1, rfl, rfl⟩)
end
