/-! (S): the beginning -/
section
variable {C : Cx} {M : Nat} {E : En}
noncomputable def gBeg (E : En) (W : Nat) : Gh := ((fun _ => W), (fun c => if c < 14 then 2 else if W ≤ c + 3 ∧ c ≤ W then 4 else 1), (fun c => @ite _ (E.1 c) (Classical.propDecidable _) W 5000), (fun c => @ite _ (E.2 c) (Classical.propDecidable _) W 5000))
def tBeg (M W j : Nat) (z : Sg) : Th := ([(W, j, z)], (0, 0, 1), (16, M), [], [], (0, 0))
def qBeg (M W j : Nat) (z : Sg) : Thr := fun t => if t = W then some (tBeg M W j z) else none
theorem inv_b {d e j : Nat} {wr : Nat → Nat} {s : Cr} {w : Wd} (hM : M = 16 + (1 + e + d + 3)) (h4 : 1 + e + d + 3 ≤ 4000) (hwr : ∀ c, (wr c &&& 4 ≠ 0 → E.1 c) ∧ (wr c &&& 8 ≠ 0 → E.2 c)) : Inv C M (cBeg M (C.2 j) (16 + d + 3) s) (wBeg w) (gBeg E (16 + d + 3)) (qBeg M (16 + d + 3) j (zRt d e wr)) E := by
  have q0 : ∀ t th, qBeg M (16 + d + 3) j (zRt d e wr) t = some th → t = 16 + d + 3 ∧ th = tBeg M (16 + d + 3) j (zRt d e wr) := by
    intro t th h
    unfold qBeg at h
    by_cases c : t = 16 + d + 3
    · rw [if_pos c] at h; exact ⟨c, (Option.some.inj h).symm⟩
    · rw [if_neg c] at h; exact nomatch h
  have r4 : ∀ k, k ≤ 3 → (gBeg E (16 + d + 3)).2.1 (16 + d + 3 - k) = 4 := by
    intro k hk
    show (if 16 + d + 3 - k < 14 then 2 else if 16 + d + 3 ≤ 16 + d + 3 - k + 3 ∧ 16 + d + 3 - k ≤ 16 + d + 3 then 4 else 1) = 4
    rw [if_neg (by omega), if_pos (by omega)]
  refine ⟨⟨rfl, by omega⟩, fun t th h => ?_, fun c hc => ?_, ?_, ?_, ?_, ?_⟩
  · obtain ⟨rfl, rfl⟩ := q0 t th h
    refine ⟨16 + d + 3, j, zRt d e wr, [], rfl, Nat.le_refl _, Nat.le_refl _, Nat.le_refl _, fun f hf => ?_, ?_, fun x _ _ => Or.inl rfl, ?_, ?_, fun _ hn => absurd rfl hn, fun _ => rfl, ⟨fun _ _ => rfl, fun hn => absurd rfl hn, fun hn => absurd rfl hn⟩, fun k hk => ⟨r4 k hk, rfl⟩, by omega⟩
    · have hf : f = (16 + d + 3, j, zRt d e wr) := List.mem_singleton.mp hf
      subst hf
      refine ⟨?_, ?_, ?_, fun off => Or.inl rfl, fun c hc => ⟨by omega, ?_, List.mem_cons_self, fun hb => Or.inl ?_, fun hb => Or.inl ?_⟩, ⟨fun o o' _ hb => ?_, fun o c _ hb => ?_⟩⟩
      · show 3 ≤ d + 3
        omega
      · show 16 + (d + 3) ≤ 16 + d + 3
        omega
      · show 16 + d + 3 + (1 + e) ≤ M
        omega
      · show (if c < 14 then 2 else _) = 2
        rw [if_pos hc]
      · show (@ite _ (E.1 c) (Classical.propDecidable _) (16 + d + 3) 5000) = _
        exact if_pos ((hwr c).1 hb)
      · show (@ite _ (E.2 c) (Classical.propDecidable _) (16 + d + 3) 5000) = _
        exact if_pos ((hwr c).2 hb)
      · exact absurd (show (0 : Nat) &&& 0 = 0 from rfl) hb
      · exact absurd (Nat.zero_and _) hb
    · show (zU (zRt d e wr)).1 ≠ 1
      exact (by decide : (0 : Nat) ≠ 1)
    · exact ⟨List.nodup_nil, fun c hc => (absurd hc List.not_mem_nil), fun hc => (absurd hc List.not_mem_nil), _, rfl, rfl, rfl⟩
    · show _ ∧ _
      refine ⟨(by decide : ¬ (1 : Int32) = 0), rfl, rfl, Or.inl ⟨rfl, rfl⟩, trivial, trivial, trivial⟩
  · have hc : (if c < 14 then 2 else if 16 + d + 3 ≤ c + 3 ∧ c ≤ 16 + d + 3 then 4 else 1) = 2 := hc
    by_cases c14 : c < 14
    · refine ⟨by omega, Or.inl ?_⟩
      show (if c < M then (if c ≤ 13 then (-1 : Int32) else 0) else s.2.1 c) = -1
      rw [if_pos (by omega), if_pos (by omega)]
    · rw [if_neg c14] at hc
      split at hc <;> omega
  · refine ⟨fun _ => ⟨16 + d + 3, _, if_pos rfl, rfl⟩, fun t th t' th' h h' _ _ => ?_, fun t th t' th' h h' _ _ => ?_, fun n hn => (absurd hn List.not_mem_nil), fun n hn => (absurd hn List.not_mem_nil), List.nodup_nil, List.nodup_nil, fun hn => absurd rfl hn, fun _ _ => rfl, Or.inr rfl⟩
    · rw [(q0 t th h).1, (q0 t' th' h').1]
    · rw [(q0 t th h).1, (q0 t' th' h').1]
  · refine fun c hc => ⟨fun hn => ?_, fun hn => ?_⟩
    · show (@ite _ (E.1 c) (Classical.propDecidable _) (16 + d + 3) 5000) = _
      exact if_neg hn
    · show (@ite _ (E.2 c) (Classical.propDecidable _) (16 + d + 3) 5000) = _
      exact if_neg hn
  · refine fun c hc hE => ⟨fun _ => ⟨rfl, rfl, fun b tb h h3 => ?_⟩, fun hn => absurd rfl hn⟩
    rw [(q0 b tb h).2] at h3
    exact absurd (show (0 : Nat) = 3 from h3) (by decide)
  · intro b tb h h2
    rw [(q0 b tb h).2] at h2
    exact absurd (show (0 : Nat) = 2 from h2) (by decide)
theorem aFr_b {d e j : Nat} {wr : Nat → Nat} (h : gfX C M E (fun _ _ => False) j (zRt d e wr)) : aFr C M E (qBeg M (16 + d + 3) j (zRt d e wr)) := by
  refine ⟨⟨16 + d + 3, _, if_pos rfl⟩, fun b tb f hb hf => ?_⟩
  unfold qBeg at hb
  by_cases c : b = 16 + d + 3
  · rw [if_pos c] at hb
    have := Option.some.inj hb
    subst this
    have hf : f = (16 + d + 3, j, zRt d e wr) := List.mem_singleton.mp hf
    rw [hf]
    exact h
  · rw [if_neg c] at hb; exact nomatch hb
theorem wr_ex (E : En) : ∃ wr : Nat → Nat, ∀ c, (wr c &&& 4 ≠ 0 ↔ E.1 c) ∧ (wr c &&& 8 ≠ 0 ↔ E.2 c) := by
  have h := fun c : Nat => m_ex (P4 := E.1 c) (P8 := E.2 c)
  exact ⟨fun c => Classical.choose (h c), fun c => ⟨(Classical.choose_spec (h c)).1, (Classical.choose_spec (h c)).2.1⟩⟩
/-- the system at the beginning is in order -/
theorem si_beg {X : Xs} {G : PgS} {B : Bg} {S : Sy} (h : ∀ p, p < 6 → G.1 p = true → ∃ d e j, (B p).2.1 = 1 + e + d + 3 ∧ (B p).2.1 ≤ 4000 ∧ (B p).2.2.2 = 16 + d + 3 ∧ (B p).2.2.1 = (X p).1.2 j ∧ (X p).2 = 16 + (B p).2.1 ∧ ∀ wr : Nat → Nat, (∀ c, (wr c &&& 4 ≠ 0 ↔ (sEn G p).1 c) ∧ (wr c &&& 8 ≠ 0 ↔ (sEn G p).2 c)) → gfX (X p).1 (X p).2 (sEn G p) (fun _ _ => False) j (zRt d e wr)) : SI X G 0 (sBeg G B S) := by
  refine ⟨fun p hp hG => ?_, fun l hl => ⟨Or.inl ⟨rfl, rfl⟩, fun hn => absurd rfl hn⟩, ⟨0, rfl, Nat.le_refl _⟩, ?_, ?_, ?_⟩
  · obtain ⟨d, e, j, b1, b2, b3, b4, b5, b6⟩ := h p hp hG
    obtain ⟨wr, hw⟩ := wr_ex (sEn G p)
    refine ⟨gBeg (sEn G p) (16 + d + 3), qBeg (X p).2 (16 + d + 3) j (zRt d e wr), ?_, aFr_b (b6 wr hw)⟩
    show Inv (X p).1 (X p).2 (if G.1 p = true then cBeg (16 + (B p).2.1) (B p).2.2.1 (B p).2.2.2 (S.1 p) else S.1 p) (wBeg S.2.1) _ _ _
    rw [if_pos hG, b3, b4, ← b5]
    exact inv_b (by rw [b5, b1]) (by omega) (fun c => ⟨(hw c).1.mp, (hw c).2.mp⟩)
  · exact (by decide : (0 : Int32) ≤ 0)
  · exact (by decide : (0 : Int32) ≤ 200)
  · exact (by decide : (0 : Int32) ≤ 0)
end
