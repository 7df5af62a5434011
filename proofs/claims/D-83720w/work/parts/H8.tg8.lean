/-! the twin's coder: PAR -/
theorem i_ss (F x y : Int32) : (F - x) - y = F - (x + y) := sorry
theorem i_sf (F x : Int32) : (F - x) - F = -x := sorry
theorem i_wf (w F x : Int32) : (w + F) - (F - x) = x + w := sorry
theorem i_df (a F x : Int32) : a - (F - x) = (a - F) + x := sorry
theorem TyM.s {s : Nat × Nat × Nat × Nat} {W : Nat → Nat} {n l l1 : Nat} {ve : List (Nat × Nat)} {C : List It} {h h1 : mj_H} (a : TyM sT0 n W l ve C l1 h h1) (h3 : s.2.2.1 ≤ 40) (h4 : s.2.2.2 ≤ 40) : TyM s n W l ve C l1 h h1 := sorry
section
variable {W : Nat → Nat} {ve : List (Nat × Nat)} {h : mj_H}
/-- LDC of a way, LDPI -/
theorem g_place {D n l L t : Nat} (hK : KG n l h) (hL : 1 ≤ L ∧ L < 20000) (hv : (L, t) ∈ ve) (hl : l + 1 < 19998) (v2 : (l + 1, n + 2) ∈ ve) (hW : W (l + 1) = 1) :
    ∃ h', mj_R mg (D + 2) mq_300 (0, [(0, vR 15 0), (1, vI (nI L))], [], h) = some (.inl (none, h')) ∧ TyM sT0 n W l ve [iB 4 t (n + 2), iO 13] (l + 1) h h' ∧ (n + 2 ≤ 7000 → h'.1 122 0 (l + 1) = nI (n + 2)) ∧ ∀ j, j ≤ l → h'.1 122 0 j = h.1 122 0 j := sorry
end
section
variable {sy : List Sym} {pa : List (List Nat)} {pz : List (Nat × Nat)} {vis : List Nat} {rh : Nat → Nat × Nat} {D : Nat → Int32} {lv al : Nat} {r : Nat → Int32} {u : Nat} {W : Nat → Nat} {ve : List (Nat × Nat)} {h : mj_H}
/-- a branch is started -/
theorem g_hb1 {Dp n l st k c b z v lo hi kk many o : Nat} {x2 x3 x5 : Int32} {w0 : Nat} (hh : hi ≤ 7000) (y : tM u lo hi h kk w0) (hkm : k < many) (hk8 : k < 8) (hlv : lv < 40) (hc : c < 7000) (e98 : h.1 98 0 c = nI (1 + z)) (e99 : h.1 99 0 c = nI v) (e81 : h.1 15 0 81 = nI lv) (hx : x2 = 0 ∨ x2 = 1) (ho : o = if k = 0 ∧ x2 = 0 ∧ h.1 89 0 kk = 1 then 16 else 15) (hK : KG n l h) (hl : l + 2 < 19997) (v1 : (l + 1, st) ∈ ve) (v2 : (l + 2, n + 2) ∈ ve) (hW : W (l + 2) = 1) (hm : many < 100) :
    ∃ h', mj_R mg (Dp + 3) mq_311 (118, [(9, vI (nI k)), (8, vI (nI c)), (7, vI (nI b)), (6, vI (nI (8 * lv))), (5, vI x5), (4, vI (nI many)), (3, vI x3), (2, vI x2), (0, vR 15 0), (1, vI (nI kk))], [], h) = mj_R mg (Dp + 3) mq_311 (118, [(9, vI (nI (k + 1))), (8, vI (if x2 = 0 then h.1 94 0 c else nI c)), (7, vI (nI (b + (1 + z) + v + 3))), (6, vI (nI (8 * lv))), (5, vI x5), (4, vI (nI many)), (3, vI x3), (2, vI x2), (0, vR 15 0), (1, vI (nI kk))], [], h') ∧
      TyM (0, 0, lv, 40) n W l ve (hB1 n st (b + (1 + z)) o) (l + 2) h h' ∧ h'.1 128 0 (8 * lv + k) = nI (l + 1) ∧ h'.1 129 0 (8 * lv + k) = h.1 123 0 lv - nI (b + (1 + z)) ∧ (n + 2 ≤ 7000 → h'.1 122 0 (l + 2) = nI (n + 2)) ∧ (∀ j, j ≤ l → h'.1 122 0 j = h.1 122 0 j) ∧ ∀ j, j ≠ 8 * lv + k → j < 320 → h'.1 128 0 j = h.1 128 0 j ∧ h'.1 129 0 j = h.1 129 0 j := sorry
/-- a branch -/
theorem g_brn {Dp n l k c d w q kk many slo shi N tp : Nat} {x2 x5 x7 : Int32} {P : List It} (S : qY sy pa pz vis rh D lv al r h) (hlv : lv + 1 < 40) (hk8 : k < 8) (hc : c < 7000) (e129 : h.1 129 0 (8 * lv + k) = h.1 123 0 lv - nI d) (hx : x2 = 0 ∨ x2 = 1) (hD : 80 ≤ Dp)
    (ih : ∀ hA, (∀ g i j, g ≠ 123 → ¬ (g = 15 ∧ j = 81) → hA.1 g i j = h.1 g i j) → hA.2 = h.2 → KG n l hA → qY sy pa pz vis rh (shD D lv d) (lv + 1) al r hA → ∃ hB l2, mj_R mg Dp mq_306 (0, [(0, vR 15 0), (1, vI (nI c))], [], hA) = some (.inl (none, hB)) ∧ TyG (slo, shi, lv + 1, al) n l ve P l2 hA hB ∧ lbT n l l2 N tp) (hK : KG n l h) :
    ∃ h' l2, mj_R mg (Dp + 1) mq_311 (364, [(10, vI (nI k)), (8, vI (nI c)), (9, vI (h.1 123 0 lv)), (7, vI x7), (6, vI (nI (8 * lv))), (5, vI x5), (4, vI (nI many)), (3, vI (nI w)), (2, vI x2), (0, vR 15 0), (1, vI (nI kk))], [], h) = mj_R mg (Dp + 1) mq_311 (312, [(10, vI (nI (k + 1))), (8, vI (if x2 = 0 then h.1 94 0 c else nI c)), (9, vI (h.1 123 0 lv)), (7, vI x7), (6, vI (nI (8 * lv))), (5, vI x5), (4, vI (nI many)), (3, vI (nI w)), (2, vI x2), (0, vR 15 0), (1, vI (nI kk))], [], h') ∧
      TyG (slo, shi, lv, al) n l ve (P ++ [iV 1 (D lv + nI d + nI w), iO 17]) l2 h h' ∧ lbT n l l2 N tp ∧ ∀ j, j < 8 * (lv + 1) → h'.1 128 0 j = h.1 128 0 j ∧ h'.1 129 0 j = h.1 129 0 j := sorry
end

