/-! the twin compiles: faults, one processor -/
theorem tb_0 {d : Nat} {h : mj_H} (e : h.1 15 0 16 = 0) : mj_R mg d mq_204 (0, [(0, vR 15 0)], [], h) = some (.inl (some (vI 0), h)) := by
  rw [q_204_0, if_pos e, q_204_12, if_pos (Or.inl rfl)]
theorem tb_1 {d : Nat} {h : mj_H} (e : ¬ h.1 15 0 16 = 0) : mj_R mg d mq_204 (0, [(0, vR 15 0)], [], h) = some (.inl (some (vI 1), h)) := by
  rw [q_204_0, if_neg e, q_204_12, if_pos (Or.inr rfl)]
theorem t_e185 {d : Nat} {x1 : Int32} {h : mj_H} (e : ¬ h.1 15 0 16 = 0) : mj_R mg (d + 1) mq_319 (185, [(1, vI x1), (0, vR 15 0)], [], h) = some (.inl (some (vI (-1)), mj_sI h 15 0 28 0)) := by
  rw [q_319_185, tb_1 e, mj_xi_ret, if_neg (by decide)]
theorem t_e143 {d k : Nat} {h : mj_H} (hk : k ≤ 6) (e : ¬ h.1 15 0 16 = 0) : mj_R mg (d + 1) mq_319 (143, [(1, vI (nI k)), (0, vR 15 0)], [], h) = some (.inl (some (vI (-1)), mj_sI h 15 0 28 0)) := by
  rw [q_319_143]
  by_cases h6 : (6 : Int32) ≤ nI k
  · rw [if_pos h6]
    exact t_e185 e
  · rw [if_neg h6, tb_1 e, mj_xi_ret, if_pos (by decide)]
    exact t_e185 e
theorem t_e114 {d : Nat} {x1 : Int32} {h : mj_H} (e : ¬ h.1 15 0 16 = 0) : mj_R mg (d + 1) mq_319 (114, [(1, vI x1), (0, vR 15 0)], [], h) = some (.inl (some (vI (-1)), mj_sI h 15 0 28 0)) := by
  rw [q_319_114, tb_1 e, mj_xi_ret, if_pos (by decide), q_319_141]
  exact t_e143 (k := 0) (by omega) e
section
variable {sy : List Sym} {pz : List (Nat × Nat)} {pa : List (List Nat)} {bs : List Tm} {rt : List (Nat × Tm)} {nl : Nat} {sg : Nat → Nat × Nat}
/-- the bytes that the twin holds -/
theorem cd_Y {R : Tm} {L : Nat → Nat} {p : Nat} {h : mj_H} (hb : ∀ j x, (kX sy pz pa bs R)[j]? = some x → ∀ t, t < L j → h.1 125 0 (6000 * p + plS L j + t) = bE x.1 (vlS L x) (L j - 1 - t)) : ∀ x, cdF (kX sy pz pa bs R) L x < 256 → h.1 125 0 (6000 * p + x) = nI (cdF (kX sy pz pa bs R) L x) := by
  intro x hx
  obtain ⟨j, y, t, h1, h2, rfl⟩ := cdF_in hx
  have hf : y.1 < 16 := (kX_fn y (List.mem_of_getElem? h1)).1
  obtain ⟨e1, e2⟩ := bE_N (v := vlS L y) hf (L j - 1 - t)
  rw [cdF_at h1 h2, ← Nat.add_assoc, hb j y h1 t h2, e1]
/-- a processor that was typed -/
def tTd (sy : List Sym) (pz : List (Nat × Nat)) (pa : List (List Nat)) (bs : List Tm) (p : Nat) (R : Tm) (h : mj_H) : Prop := okLn sy pz pa bs R ∧ h.1 126 0 p = nI (plS (lsO (kX sy pz pa bs R)) (kAl sy pz pa bs R).length) ∧ h.1 127 0 p = nI (plS (lsO (kX sy pz pa bs R)) (kSt sy pz pa bs bs.length)) ∧ ∀ y, cdF (kX sy pz pa bs R) (lsO (kX sy pz pa bs R)) y < 256 → y < 6000 → h.1 125 0 (6000 * p + y) = nI (cdF (kX sy pz pa bs R) (lsO (kX sy pz pa bs R)) y)
theorem tTd.mv {p : Nat} {R : Tm} {h h' : mj_H} (a : tTd sy pz pa bs p R h) (f1 : h'.1 126 0 p = h.1 126 0 p) (f2 : h'.1 127 0 p = h.1 127 0 p) (f3 : ∀ y, y < 6000 → h'.1 125 0 (6000 * p + y) = h.1 125 0 (6000 * p + y)) : tTd sy pz pa bs p R h' := by
  obtain ⟨a1, a2, a3, a4⟩ := a
  exact ⟨a1, f1.trans a2, f2.trans a3, fun y hy h6 => by rw [f3 y h6]; exact a4 y hy h6⟩
theorem t_gen2 {Dp pr xr lo hi : Nat} {R : Tm} {sr : Nat × Nat} {h0 : mj_H} (T : tTr sy pz pa bs nl sg h0) (hD : 170 ≤ Dp) (hS : tSu bs bs.length + tWl R 0 ≤ 12900) (hp : pr < 6) (rr : rut sy pa nl R sr) (hsr : sr.2 ≤ sy.length) (h108 : h0.1 108 0 pr = nI xr) (hlh : 1 ≤ lo ∧ hi ≤ 7000) (rq : tQF sy pz pa h0 R 0 0 0 (nI xr) lo hi 1 0) (hz : (mz sy pz R 0).2 < 1000000) :
    mP (mj_R mg (Dp + 1) mq_318 (0, [(0, vR 15 0), (1, vI (nI pr))], [], h0)) (fun v h' => gGb pr h0 h' ∧ ((v = some (vI 1) ∧ tTd sy pz pa bs pr R h') ∨ (¬ okLn sy pz pa bs R ∧ v = some (vI 0)))) := by
  refine mP_mono (t_gen T hD hS hp rr hsr h108 hlh rq hz) ?_
  rintro v h1 ⟨g1, hc⟩
  refine ⟨g1, ?_⟩
  rcases hc with ⟨c1, c2⟩ | ⟨c1, L, c2, ⟨c3, c4⟩ | ⟨c3, c4, c5, c6, c7⟩⟩
  · refine Or.inr ⟨fun z => ?_, c2⟩
    have := z.1.1
    omega
  · refine Or.inr ⟨fun z => ?_, c4⟩
    have := z.2
    rw [lsO_eq c2] at this
    omega
  · refine Or.inl ⟨c4, ⟨⟨c1, by rw [lsO_eq c2]; exact c2⟩, by rw [lsO_eq c2]; exact c3⟩, by rw [lsO_eq c2]; exact c5, by rw [lsO_eq c2]; exact c6, ?_⟩
    rw [lsO_eq c2]
    exact fun y hy _ => cd_Y c7 y hy
end
