/-! the component's coder: expressions -/
theorem c_em {D n lc fr : Nat} {s : Nat × Nat × Nat} {ve : List (Nat × Nat)} {h : mj_H} (hK : CK n lc fr h) (f : Nat) (v x1 : Int32) (hx : x1 = nI f) : ∃ h', mj_R mg (D + 2) mq_127 (0, [(0, vR 10 0), (1, vI x1), (2, vI v)], [], h) = some (.inl (none, h')) ∧ TyC s n lc ve [iV f v] lc fr h h' := sorry
theorem c_op {D n lc fr : Nat} {s : Nat × Nat × Nat} {ve : List (Nat × Nat)} {h : mj_H} (hK : CK n lc fr h) (o : Nat) (x1 : Int32) (hx : x1 = nI o) : ∃ h', mj_R mg (D + 3) mq_128 (0, [(0, vR 10 0), (1, vI x1)], [], h) = some (.inl (none, h')) ∧ TyC s n lc ve [iO o] lc fr h h' := sorry
def opL : List Nat := [43, 45, 42, 47, 92, 15420, 15934, 12124, 23599, 61, 15422, 60, 15933, 15421, 62]
theorem op_L {o : Nat} (h : ∃ k, isO k = true ∧ opC k = o) : o = 65 ∨ o = 79 ∨ o ∈ opL := sorry
section
variable {D n lc fr : Nat} {s : Nat × Nat × Nat} {ve : List (Nat × Nat)} {h : mj_H}
theorem c_sg43 (hK : CK n lc fr h) : ∃ h', mj_R mg (D + 5) mq_140 (0, [(0, vR 10 0), (1, vI (nI 43))], [], h) = some (.inl (none, h')) ∧ TyC s n lc ve (sgI 43) lc fr h h' := sorry
theorem c_sg45 (hK : CK n lc fr h) : ∃ h', mj_R mg (D + 5) mq_140 (0, [(0, vR 10 0), (1, vI (nI 45))], [], h) = some (.inl (none, h')) ∧ TyC s n lc ve (sgI 45) lc fr h h' := sorry
theorem c_sg42 (hK : CK n lc fr h) : ∃ h', mj_R mg (D + 5) mq_140 (0, [(0, vR 10 0), (1, vI (nI 42))], [], h) = some (.inl (none, h')) ∧ TyC s n lc ve (sgI 42) lc fr h h' := sorry
theorem c_sg47 (hK : CK n lc fr h) : ∃ h', mj_R mg (D + 5) mq_140 (0, [(0, vR 10 0), (1, vI (nI 47))], [], h) = some (.inl (none, h')) ∧ TyC s n lc ve (sgI 47) lc fr h h' := sorry
theorem c_sg92 (hK : CK n lc fr h) : ∃ h', mj_R mg (D + 5) mq_140 (0, [(0, vR 10 0), (1, vI (nI 92))], [], h) = some (.inl (none, h')) ∧ TyC s n lc ve (sgI 92) lc fr h h' := sorry
theorem c_sg15420 (hK : CK n lc fr h) : ∃ h', mj_R mg (D + 5) mq_140 (0, [(0, vR 10 0), (1, vI (nI 15420))], [], h) = some (.inl (none, h')) ∧ TyC s n lc ve (sgI 15420) lc fr h h' := sorry
theorem c_sg15934 (hK : CK n lc fr h) : ∃ h', mj_R mg (D + 5) mq_140 (0, [(0, vR 10 0), (1, vI (nI 15934))], [], h) = some (.inl (none, h')) ∧ TyC s n lc ve (sgI 15934) lc fr h h' := sorry
theorem c_sg12124 (hK : CK n lc fr h) : ∃ h', mj_R mg (D + 5) mq_140 (0, [(0, vR 10 0), (1, vI (nI 12124))], [], h) = some (.inl (none, h')) ∧ TyC s n lc ve (sgI 12124) lc fr h h' := sorry
theorem c_sg23599 (hK : CK n lc fr h) : ∃ h', mj_R mg (D + 5) mq_140 (0, [(0, vR 10 0), (1, vI (nI 23599))], [], h) = some (.inl (none, h')) ∧ TyC s n lc ve (sgI 23599) lc fr h h' := sorry
theorem c_sg61 (hK : CK n lc fr h) : ∃ h', mj_R mg (D + 5) mq_140 (0, [(0, vR 10 0), (1, vI (nI 61))], [], h) = some (.inl (none, h')) ∧ TyC s n lc ve (sgI 61) lc fr h h' := sorry
theorem c_sg15422 (hK : CK n lc fr h) : ∃ h', mj_R mg (D + 5) mq_140 (0, [(0, vR 10 0), (1, vI (nI 15422))], [], h) = some (.inl (none, h')) ∧ TyC s n lc ve (sgI 15422) lc fr h h' := sorry
theorem c_sg60 (hK : CK n lc fr h) : ∃ h', mj_R mg (D + 5) mq_140 (0, [(0, vR 10 0), (1, vI (nI 60))], [], h) = some (.inl (none, h')) ∧ TyC s n lc ve (sgI 60) lc fr h h' := sorry
theorem c_sg15933 (hK : CK n lc fr h) : ∃ h', mj_R mg (D + 5) mq_140 (0, [(0, vR 10 0), (1, vI (nI 15933))], [], h) = some (.inl (none, h')) ∧ TyC s n lc ve (sgI 15933) lc fr h h' := sorry
theorem c_sg15421 (hK : CK n lc fr h) : ∃ h', mj_R mg (D + 5) mq_140 (0, [(0, vR 10 0), (1, vI (nI 15421))], [], h) = some (.inl (none, h')) ∧ TyC s n lc ve (sgI 15421) lc fr h h' := sorry
theorem c_sg62 (hK : CK n lc fr h) : ∃ h', mj_R mg (D + 5) mq_140 (0, [(0, vR 10 0), (1, vI (nI 62))], [], h) = some (.inl (none, h')) ∧ TyC s n lc ve (sgI 62) lc fr h h' := sorry
/-- an operator's instructions -/
theorem c_sign {o : Nat} (ho : o ∈ opL) (hK : CK n lc fr h) : ∃ h', mj_R mg (D + 5) mq_140 (0, [(0, vR 10 0), (1, vI (nI o))], [], h) = some (.inl (none, h')) ∧ TyC s n lc ve (sgI o) lc fr h h' := sorry
end

