/-! the component's coder: PAR -/
theorem stV_in {sy : List Sym} {pa : List (List Nat)} : ∀ (ps : Tm) (l st : Nat), ∀ x ∈ stV sy pa ps l st, l ≤ x.1 ∧ x.1 < l + tmN ps := sorry
/-- from the loop of branches to the end -/
theorem k_pend {s : Nat × Nat × Nat} {n n1 lc many l1 l2 q Dp : Nat} {ve V0 : List (Nat × Nat)} {H P : List It} {h h0 h1 h2 : mj_H} {y8 y9 y10 x2 : Int32} {first kk beh : Nat} (hs : s.2.2 ≤ 40) (hh0 : h0 = mj_sI h 10 0 13 (nI (q + 3))) (B1 : TyL s0 n lc (lc + 2 + many) lc (V0 ++ ve) H l1 (q + 3) h0 h1) (hH : n1 = n + H.length) (B2 : TyL s n1 lc (lc + 2 + many) l1 (V0 ++ ve) P l2 (q + 3) h1 h2) (hP : beh = n1 + P.length) (hl1 : lc + 2 + many ≤ l1) (hl : l2 ≤ 12000)
    (hv : n1 + P.length ≤ 6000 → ∀ z ∈ V0, z = (lc, beh) ∨ (lc < z.1 ∧ z.1 < lc + 2 + many ∧ h2.1 64 0 z.1 = nI z.2)) :
    ∃ h', mj_R mg (Dp + 1) mq_151 (424, [(10, vI y10), (9, vI y9), (8, vI y8), (7, vI (nI first)), (6, vI (nI lc)), (5, vI (nI many)), (4, vI (nI q)), (3, vI (nI q)), (2, vI x2), (0, vR 10 0), (1, vI (nI kk))], [], h2) = some (.inl (none, h')) ∧ TyC s n lc ve (H ++ P) l2 q h h' := sorry
section
variable {sy : List Sym} {pa : List (List Nat)} {pz : List (Nat × Nat)} {vis : List Nat} {rh : Nat → Nat × Nat} {D : Nat → Int32} {lv : Nat} {r : Nat → Int32} {u lo hi : Nat}
theorem k_par (hh : hi ≤ 3100) {kk n lc q Dp slo shi w : Nat} {ps : Tm} {ve : List (Nat × Nat)} {h : mj_H} (hw : w = 8 ∨ w = 10) (y : rN u lo hi h kk w) (rq : rQ (kk + 1) hi h ps 1 (h.1 23 0 kk)) (cm : cM sy pz h ps 1 (h.1 23 0 kk)) (hm8 : tmN ps ≤ 8) (hz : (mz sy pz ps 4).2 < 1000000) (hlv : lv ≤ 40) (hK : CK n lc q h) (hD : 70 ≤ Dp) (hn : n ≤ 6000) (hb : lc + (6000 - n) + (2 + 2 * tmN ps + tL ps 1) ≤ 12000)
    (row : ∀ h1 V', kF s0 n lc h h1 → CK (n + 8 + 4 * tmN ps) (lc + 2 + 2 * tmN ps) (q + 3) h1 → lc + 2 + 2 * tmN ps + bB (n + 8 + 4 * tmN ps) (tL ps 1) 0 ≤ 12000 →
      ∃ h2 l2 y8 y9 y10, mj_R mg (Dp + 1) mq_151 (307, [(10, vI (nI 0)), (9, vI (h.1 23 0 kk)), (8, vI (nI 3)), (7, vI (nI (lc + 2))), (6, vI (nI lc)), (5, vI (nI (tmN ps))), (4, vI (nI q)), (3, vI (nI q)), (2, vI 0), (0, vR 10 0), (1, vI (nI kk))], [], h1) = mj_R mg (Dp + 1) mq_151 (424, [(10, vI y10), (9, vI y9), (8, vI y8), (7, vI (nI (lc + 2))), (6, vI (nI lc)), (5, vI (nI (tmN ps))), (4, vI (nI q)), (3, vI (nI q)), (2, vI 0), (0, vR 10 0), (1, vI (nI kk))], [], h2) ∧
        TyL (slo, shi, lv) (n + 8 + 4 * tmN ps) lc (lc + 2 + tmN ps) (lc + 2 + 2 * tmN ps) V' (kP sy pz pa ps 4 rh D lv q r (n + 8 + 4 * tmN ps) 3 q) l2 (q + 3) h1 h2 ∧
        (∀ i, i < lc + 2 → h2.1 64 0 i = h1.1 64 0 i) ∧ (n + 8 + 4 * tmN ps + nQ sy pa ps 4 ≤ 6000 → ∀ z ∈ stV sy pa ps (lc + 2) (n + 8 + 4 * tmN ps), h2.1 64 0 z.1 = nI z.2) ∧
        lbQ (n + 8 + 4 * tmN ps) (lc + 2 + 2 * tmN ps) l2 (nQ sy pa ps 4) (bB (n + 8 + 4 * tmN ps) (tL ps 1) 0)) :
    ∃ h' lc', mj_R mg (Dp + 1) mq_151 (0, [(0, vR 10 0), (1, vI (nI kk))], [], h) = some (.inl (none, h')) ∧ TyC (slo, shi, lv) n lc ve (hdQ n q (tmN ps) (n + 8 + 4 * tmN ps + nQ sy pa ps 4) ++ hB sy pz pa (decide (w = 10)) ps (n + 7) (n + 8 + 4 * tmN ps) 3 ++ iO 18 :: kP sy pz pa ps 4 rh D lv q r (n + 8 + 4 * tmN ps) 3 q) lc' q h h' ∧ lbQ n lc lc' (8 + 4 * tmN ps + nQ sy pa ps 4) (6000 - n + (2 + 2 * tmN ps + tL ps 1)) := sorry
end

