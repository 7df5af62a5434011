/-! the law's first state, in the small machine -/
theorem jw_z {g k j : Nat} (h2 : g ≠ 2) (h15 : g ≠ 15) : c2_h0.1 g k j = 0 := congrFun (c2_h01 h2 h15) j
def jw_S : Sy := (fun _ => (fun _ => 0, fun _ => 0, [], []), (fun _ => 0, fun _ _ => 0, fun _ => 0, fun _ => 0), 0, 0)
theorem jw_R (k : Nat) : RQ k [] c2_h0 := ⟨0, by decide, jw_z (by decide) (by decide), jw_z (by decide) (by decide), by decide, fun i n h => by cases h⟩
theorem jw_0 : JW 0 c2_h0 := by
  refine ⟨fun _ => 10, 0, (0, -1, -1), none, jw_S, ⟨⟨⟨Nat.zero_le _, fun j hj => absurd hj (Nat.not_lt_zero _)⟩, jw_z (by decide) (by decide), fun j hj => absurd hj (Nat.not_lt_zero _)⟩, ⟨rfl, rfl, rfl⟩, fun G => ⟨fun p hp => ⟨fun j _ _ => jw_z (by decide) (by decide), fun x _ => jw_z (by decide) (by decide), jw_R _, jw_R _⟩, ⟨fun j _ => jw_z (by decide) (by decide), fun l j _ _ => jw_z (by decide) (by decide), fun x _ => jw_z (by decide) (by decide), fun x _ => jw_z (by decide) (by decide)⟩, rfl, rfl⟩, rfl⟩, ⟨⟨⟨Nat.zero_le _, fun j hj => absurd hj (Nat.not_lt_zero _)⟩, rfl, fun j hj => absurd hj (Nat.not_lt_zero _)⟩, ⟨rfl, rfl, rfl⟩, ⟨some 0, rfl, fun p hp => by cases hp; decide⟩, ⟨fun x _ => jw_z (by decide) (by decide), fun x _ => jw_z (by decide) (by decide)⟩, rfl⟩, trivial⟩
theorem jw_hv : mw_hv c2_h0 := fun g k j => ⟨fun _ h => absurd h (Nat.lt_irrefl 0), fun h => absurd h (Nat.lt_irrefl 0)⟩
