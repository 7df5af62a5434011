/-! CONSTRUCTORS: what they make (positions printed by tools/gen_c24.py) -/
def c2_pl : List Nat := [0, 1, 3, 29, 31, 33, 34, 44, 54, 59, 60, 61, 62, 63, 64, 65, 66, 67, 68, 69, 70, 71, 78, 85, 92, 99, 106, 74, 76, 81, 83, 88, 90, 95, 97, 102, 104, 109, 111, 113, 57, 58, 2, 4, 5, 6, 7, 8, 9, 10, 11, 12, 13, 14, 15, 16, 17, 18, 19, 20, 21, 22, 23, 24, 25, 26, 27, 28, 30, 32, 35, 36, 37, 38, 39, 40, 41, 42, 43, 45, 46, 47, 48, 49, 50, 51, 52, 53, 55, 56, 72, 79, 86, 93, 100, 107, 73, 80, 87, 94, 101, 108, 75, 77, 82, 84, 89, 91, 96, 98, 103, 105, 110, 112, 114, 115, 116, 117, 118, 119, 120, 121, 122, 123, 124, 125, 126, 127, 128, 129, 130, 131, 132, 133, 134, 135, 136, 137, 138, 139, 140, 141, 142, 143, 144, 145, 146, 147, 148, 149, 150, 151, 152, 153, 154, 155, 156, 157, 158, 159, 160, 161, 162, 163, 164, 165, 166, 167, 168, 169, 170, 171, 172, 173, 174, 175, 176, 177, 178, 179, 180, 181, 182, 183, 184, 185, 186, 187, 188, 189, 190, 191, 192, 193, 194, 195, 196, 197, 198, 199]
def c2_pos (g k : Nat) : Nat := c2_pl.getD (mw_pos0 g + k) 0
def c2_h0 : mj_H := (fun g k j => bif (Nat.beq g 2 && Nat.beq k 0 && (Nat.beq j 12 || Nat.beq j 13)) || (Nat.beq g 15 && Nat.beq k 0 && (Nat.beq j 17 || Nat.beq j 18)) then -1 else 0, fun _ _ _ => 0, fun _ _ _ => 0)
def c2_sp (g : Nat) : Bool := Nat.beq g 9 || (Nat.ble 16 g && Nat.ble g 18)
/-- what the cell (g, k) is expected to be -/
def c2_xf (a g k j : Nat) : c2_V := match mw_fz a j with
  | 0 => .inl (c2_h0.1 g k j)
  | 2 => .inr (.inr true)
  | 3 => .inr (.inl (c2_pos (mt_ref g k j).1 (mt_ref g k j).2))
  | _ => .inr (.inr false)
def c2_xd (g k : Nat) : c2_C := match (mt_grp g).1 with
  | 0 => (0, (mt_grp g).2 - 1, (List.range (mw_nf (mt_grp g).2)).map (c2_xf (mt_grp g).2 g k), [])
  | 1 => (1, mt_len g k, [], [])
  | 2 => (2, mt_len g k, [], [])
  | 3 => (3, mt_len g k, [], [])
  | 4 => (4, mt_len g k, [], [])
  | 5 => bif Nat.beq (mt_grp g).2 16 then (5, mt_len g k, [], []) else ((mt_grp g).2, mt_len g k, [], (List.range (mt_len g k)).reverse.map (fun i => (i, c2_pos (mt_grp g).2 i)))
  | _ => ((mt_grp g).2, mt_len g k, [], [])
def c2_r1 : Option (List c2_C) := c2_ex 3000 3 0 (0, [(0, .inr (.inl 0))], [], [(0, 0, c2_z 0, [])])
def c2_hC : List c2_C := c2_r1.getD []
def c2_r2 : Option (List c2_C) := c2_ex 3000 3 12 (0, [(0, .inr (.inl 113))], [], c2_hC ++ [(0, 12, c2_z 12, [])])
def c2_hT : List c2_C := c2_r2.getD []
theorem c2_r1s : c2_r1.isSome = true := by decide +kernel
theorem c2_r2s : c2_r2.isSome = true := by decide +kernel
theorem c2_lC : c2_hC.length = 113 ∧ c2_sz c2_hC ≤ 1000000 := by decide +kernel
theorem c2_lT : c2_hT.length = 200 ∧ c2_sz c2_hT ≤ 2900000 := by decide +kernel
theorem c2_r1e : c2_r1 = some c2_hC := by
  obtain ⟨x, hx⟩ := Option.isSome_iff_exists.mp c2_r1s
  unfold c2_hC
  rw [hx]
  rfl
theorem c2_r2e : c2_r2 = some c2_hT := by
  obtain ⟨x, hx⟩ := Option.isSome_iff_exists.mp c2_r2s
  unfold c2_hT
  rw [hx]
  rfl
/-- every cell is as expected -/
def c2_qV : c2_V → c2_V → Bool
  | .inl x, .inl y => decide (x = y)
  | .inr (.inl x), .inr (.inl y) => Nat.beq x y
  | .inr (.inr true), .inr (.inr true) => true
  | .inr (.inr false), .inr (.inr false) => true
  | _, _ => false
theorem c2_qVe {a b : c2_V} (h : c2_qV a b = true) : a = b := by
  rcases a with x | x | (_ | _) <;> rcases b with y | y | (_ | _) <;> first | rfl | (cases h; done) | (rw [of_decide_eq_true (show decide (x = y) = true from h)]; done) | (rw [Nat.eq_of_beq_eq_true (show Nat.beq x y = true from h)]; done)
def c2_qL : List c2_V → List c2_V → Bool
  | [], [] => true
  | x :: r, y :: t => c2_qV x y && c2_qL r t
  | _, _ => false
theorem c2_qLe : ∀ {a b : List c2_V}, c2_qL a b = true → a = b
  | [], [], _ => rfl
  | x :: r, y :: t, h => by
    have h : (c2_qV x y && c2_qL r t) = true := h
    rw [Bool.and_eq_true] at h
    rw [c2_qVe h.1, c2_qLe h.2]
  | [], _ :: _, h => by cases h
  | _ :: _, [], h => by cases h
def c2_qC (a : Option c2_C) (b : c2_C) : Bool := match a with
  | some a => Nat.beq a.1 b.1 && Nat.beq a.2.1 b.2.1 && c2_qL a.2.2.1 b.2.2.1 && decide (a.2.2.2 = b.2.2.2)
  | none => false
theorem c2_qCe {a : Option c2_C} {b : c2_C} (h : c2_qC a b = true) : a = some b := by
  cases a with
  | none => cases h
  | some a =>
    have h : (Nat.beq a.1 b.1 && Nat.beq a.2.1 b.2.1 && c2_qL a.2.2.1 b.2.2.1 && decide (a.2.2.2 = b.2.2.2)) = true := h
    simp only [Bool.and_eq_true] at h
    obtain ⟨⟨⟨h1, h2⟩, h3⟩, h4⟩ := h
    exact congrArg some (Prod.ext (Nat.eq_of_beq_eq_true h1) (Prod.ext (Nat.eq_of_beq_eq_true h2) (Prod.ext (c2_qLe h3) (of_decide_eq_true h4))))
theorem c2_chk0 : ∀ q ∈ mw_all, c2_qC c2_hT[c2_pos q.1 q.2]? (c2_xd q.1 q.2) = true := by decide +kernel
theorem c2_chk : ∀ q ∈ mw_all, c2_hT[c2_pos q.1 q.2]? = some (c2_xd q.1 q.2) := fun q hq => c2_qCe (c2_chk0 q hq)
theorem c2_chs : ∀ q ∈ mw_all, (mt_grp q.1).1 = 0 → ∀ j, j < mw_nf (mt_grp q.1).2 → mw_fz (mt_grp q.1).2 j = 3 → c2_sp (mt_ref q.1 q.2 j).1 = false := by decide +kernel
theorem c2_cha : ∀ q ∈ mw_all, c2_sp q.1 = false ∧ c2_pos q.1 q.2 < 200 ∧ ((mt_grp q.1).1 ≠ 0 → q.1 ≠ 2 ∧ q.1 ≠ 15) ∧ (mt_grp q.1).1 ≤ 6 ∧ ((mt_grp q.1).1 = 5 → (mt_grp q.1).2 = 12 ∨ (mt_grp q.1).2 = 13 ∨ (mt_grp q.1).2 = 16) ∧ ((mt_grp q.1).1 = 6 → (mt_grp q.1).2 = 17 ∨ (mt_grp q.1).2 = 18) := by decide +kernel
theorem c2_inj : ∀ i, i < 200 → ∀ j, j < 200 → c2_pl.getD i 0 = c2_pl.getD j 0 → i = j := by decide +kernel
