/-! the twin's coder: operators -/
section
variable {D n lc : Nat} {s : Nat × Nat × Nat × Nat} {ve : List (Nat × Nat)} {h : mj_H}
theorem g_sg43 (hK : KG n lc h) : ∃ h', mj_R mg (D + 2) mq_305 (0, [(0, vR 15 0), (1, vI (nI 43))], [], h) = some (.inl (none, h')) ∧ TyG s n lc ve (sgI 43) lc h h' := sorry
theorem g_sg45 (hK : KG n lc h) : ∃ h', mj_R mg (D + 2) mq_305 (0, [(0, vR 15 0), (1, vI (nI 45))], [], h) = some (.inl (none, h')) ∧ TyG s n lc ve (sgI 45) lc h h' := sorry
theorem g_sg42 (hK : KG n lc h) : ∃ h', mj_R mg (D + 2) mq_305 (0, [(0, vR 15 0), (1, vI (nI 42))], [], h) = some (.inl (none, h')) ∧ TyG s n lc ve (sgI 42) lc h h' := sorry
theorem g_sg47 (hK : KG n lc h) : ∃ h', mj_R mg (D + 2) mq_305 (0, [(0, vR 15 0), (1, vI (nI 47))], [], h) = some (.inl (none, h')) ∧ TyG s n lc ve (sgI 47) lc h h' := sorry
theorem g_sg92 (hK : KG n lc h) : ∃ h', mj_R mg (D + 2) mq_305 (0, [(0, vR 15 0), (1, vI (nI 92))], [], h) = some (.inl (none, h')) ∧ TyG s n lc ve (sgI 92) lc h h' := sorry
theorem g_sg15420 (hK : KG n lc h) : ∃ h', mj_R mg (D + 2) mq_305 (0, [(0, vR 15 0), (1, vI (nI 304))], [], h) = some (.inl (none, h')) ∧ TyG s n lc ve (sgI 15420) lc h h' := sorry
theorem g_sg15934 (hK : KG n lc h) : ∃ h', mj_R mg (D + 2) mq_305 (0, [(0, vR 15 0), (1, vI (nI 305))], [], h) = some (.inl (none, h')) ∧ TyG s n lc ve (sgI 15934) lc h h' := sorry
theorem g_sg12124 (hK : KG n lc h) : ∃ h', mj_R mg (D + 2) mq_305 (0, [(0, vR 15 0), (1, vI (nI 306))], [], h) = some (.inl (none, h')) ∧ TyG s n lc ve (sgI 12124) lc h h' := sorry
theorem g_sg23599 (hK : KG n lc h) : ∃ h', mj_R mg (D + 2) mq_305 (0, [(0, vR 15 0), (1, vI (nI 307))], [], h) = some (.inl (none, h')) ∧ TyG s n lc ve (sgI 23599) lc h h' := sorry
theorem g_sg61 (hK : KG n lc h) : ∃ h', mj_R mg (D + 2) mq_305 (0, [(0, vR 15 0), (1, vI (nI 61))], [], h) = some (.inl (none, h')) ∧ TyG s n lc ve (sgI 61) lc h h' := sorry
theorem g_sg15422 (hK : KG n lc h) : ∃ h', mj_R mg (D + 2) mq_305 (0, [(0, vR 15 0), (1, vI (nI 301))], [], h) = some (.inl (none, h')) ∧ TyG s n lc ve (sgI 15422) lc h h' := sorry
theorem g_sg60 (hK : KG n lc h) : ∃ h', mj_R mg (D + 2) mq_305 (0, [(0, vR 15 0), (1, vI (nI 60))], [], h) = some (.inl (none, h')) ∧ TyG s n lc ve (sgI 60) lc h h' := sorry
theorem g_sg15933 (hK : KG n lc h) : ∃ h', mj_R mg (D + 2) mq_305 (0, [(0, vR 15 0), (1, vI (nI 303))], [], h) = some (.inl (none, h')) ∧ TyG s n lc ve (sgI 15933) lc h h' := sorry
theorem g_sg15421 (hK : KG n lc h) : ∃ h', mj_R mg (D + 2) mq_305 (0, [(0, vR 15 0), (1, vI (nI 302))], [], h) = some (.inl (none, h')) ∧ TyG s n lc ve (sgI 15421) lc h h' := sorry
theorem g_sg62 (hK : KG n lc h) : ∃ h', mj_R mg (D + 2) mq_305 (0, [(0, vR 15 0), (1, vI (nI 62))], [], h) = some (.inl (none, h')) ∧ TyG s n lc ve (sgI 62) lc h h' := sorry
/-- an operator's instructions -/
theorem g_sign {o : Nat} (ho : o ∈ opL) (hK : KG n lc h) : ∃ h', mj_R mg (D + 2) mq_305 (0, [(0, vR 15 0), (1, vI (nI (opT o)))], [], h) = some (.inl (none, h')) ∧ TyG s n lc ve (sgI o) lc h h' := sorry
end

