/-! the twin's reader: a loop's line -/
noncomputable def fT3 (X2 : mj_H → Option mj_O) (D c lv : Nat) (h : mj_H) : Option mj_O := mj_xi (X2 h) (fun r10 h10 => mj_xv (mj_R mg D mq_223 (0, [(0, vR 15 0)], [], mj_sI h10 92 0 c r10)) (fun h11 => mj_xi (mj_R mg D mq_251 (0, [(0, vR 15 0), (1, vI (nI c)), (2, vI (nI lv))], [], h11)) (fun r12 h12 => some (.inl (some (vI r12), h12)))))
noncomputable def fT2 (X2 : mj_H → Option mj_O) (D c lv : Nat) (h : mj_H) : Option mj_O := mj_xi (mj_R mg D mq_220 (0, [(0, vR 15 0), (1, vI 13)], [], h)) (fun r8 h8 => mj_xv (mj_R mg D mq_222 (0, [(0, vR 15 0), (1, vI r8)], [], h8)) (fun h9 => fT3 X2 D c lv h9))
noncomputable def fT1 (X1 X2 : mj_H → Option mj_O) (D c lv : Nat) (h : mj_H) : Option mj_O := mj_xi (X1 h) (fun r7 h7 => fT2 X2 D c lv (mj_sI h7 91 0 c r7))
noncomputable def fT0 (X1 X2 : mj_H → Option mj_O) (D c lv : Nat) (h : mj_H) : Option mj_O := mj_xv (mj_R mg D mq_222 (0, [(0, vR 15 0), (1, vI 1)], [], h)) (fun h4 => mj_xi (mj_R mg D mq_221 (0, [(0, vR 15 0), (1, vI 61)], [], h4)) (fun r5 h5 => mj_xv (mj_R mg D mq_222 (0, [(0, vR 15 0), (1, vI r5)], [], h5)) (fun h6 => fT1 X1 X2 D c lv h6)))
def xB (X : mj_H → Option mj_O) : Prop := ∀ h, h.1 15 0 16 ≠ 0 → ∃ r, X h = some (.inl (some (vI r), h))
theorem fB3 {X2 : mj_H → Option mj_O} {D c lv : Nat} {h h1 : mj_H} {f : Flt} (x2 : xB X2) (b : tX h h1 f) : mP (fT3 X2 (D + 1) c lv h1) (tXv h f) := sorry
theorem fB2 {X2 : mj_H → Option mj_O} {D c lv : Nat} {h h1 : mj_H} {f : Flt} (x2 : xB X2) (b : tX h h1 f) : mP (fT2 X2 (D + 1) c lv h1) (tXv h f) := sorry
theorem fB1 {X1 X2 : mj_H → Option mj_O} {D c lv : Nat} {h h1 : mj_H} {f : Flt} (x1 : xB X1) (x2 : xB X2) (b : tX h h1 f) : mP (fT1 X1 X2 (D + 1) c lv h1) (tXv h f) := sorry
theorem fB0 {X1 X2 : mj_H → Option mj_O} {D c lv : Nat} {h h1 : mj_H} {f : Flt} (x1 : xB X1) (x2 : xB X2) (b : tX h h1 f) : mP (fT0 X1 X2 (D + 1) c lv h1) (tXv h f) := sorry
/-- a loop's node -/
def fN (w u c s : Nat) (h : mj_H) : Prop := h.1 87 0 c = nI w ∧ h.1 88 0 c = nI u ∧ h.1 89 0 c = nI (s + 2) ∧ h.1 94 0 c = 0 ∧ h.1 100 0 c = nI (s + 2)
theorem fN.mv {w u c s m0 : Nat} {h h' : mj_H} (a : fN w u c s h) (f : tN m0 h h') (hc : c < m0) : fN w u c s h' := sorry
theorem fN.st {w u c s g : Nat} {v : Int32} {h : mj_H} (a : fN w u c s h) (hg : 90 ≤ g ∧ g ≤ 93) : fN w u c s (mj_sI h g 0 c v) := sorry
section
variable {α : Type} {I : mj_H → Nat → Nat → α → Int32 → Prop} {t : Nat → Nat} {n D m lv u i c w bd : Nat} {X1 X2 : mj_H → Option mj_O} {h : mj_H} {sy sy2 : List Sym} {vis : List Nat} {L : List PL} {pa : List (List Nat)} {F : α → α → Tm → Tm} {R1 R2 : List Tok → Rs (α × List Tok)}
def xG (I : mj_H → Nat → Nat → α → Int32 → Prop) (t : Nat → Nat) (n u i : Nat) (sy2 : List Sym) (vis : List Nat) (L : List PL) (X : mj_H → Option mj_O) (R : List Tok → Rs (α × List Tok)) : Prop := ∀ h nn ts, TX t n h sy2 vis 0 nn u i ts L → nn + ts.length ≤ 3400 → mP (X h) (fun v h' => qI I t n sy2 vis nn u i L (nn + ts.length) h v h' (R ts))
/-- what the loop's node means -/
def fQ (I : mj_H → Nat → Nat → α → Int32 → Prop) (pa : List (List Nat)) (w u c s : Nat) (F : α → α → Tm → Tm) : Prop := ∀ (nn' m1 m2 : Nat) (h9 : mj_H) (f cc : Nat) (e1 e2 : α) (x : Tm), tD u c nn' h9 c w f cc → c + 1 ≤ m1 ∧ m1 ≤ m2 ∧ m2 ≤ nn' → h9.1 89 0 c = nI (s + 2) → h9.1 100 0 c = nI (s + 2) → I h9 (c + 1) m1 e1 (h9.1 91 0 c) → I h9 m1 m2 e2 (h9.1 92 0 c) → tQ pa m2 nn' h9 x 0 0 0 (h9.1 93 0 c) → tQ pa c nn' h9 (.div (.index u) (F e1 e2 x)) 0 f cc (nI c)
theorem fG3 {nn1 : Nat} {e1 : α} {h1 : mj_H} {ts : List Tok} (PK : TrK pa m) (hbd : bd ≤ 3300) (hlv : lv ≤ 15) (hm : (16 - lv) + (200 - sy.length) ≤ m) (hL : L.length ≤ 2990) (hD : 4 * m + 81 ≤ D) (hI : mvI I) (x2 : xB X2) (g2 : xG I t n u i sy2 vis L X2 R2) (hQ : fQ I pa w u c sy.length F)
    (a : TX t n h1 sy2 vis 0 nn1 u i ts L) (g : tW c sy.length vis.length h h1) (x : sX sy sy2) (hs : sy.length < sy2.length) (hv : vis.length ≤ sy.length + 2) (hP : TPA h1 sy2 vis pa) (h0 : srO sy2 sy.length ≠ 0) (hc : c < nn1) (hb : nn1 + ts.length + wt L ≤ bd) (N : fN w u c sy.length h1) (E1 : I h1 (c + 1) nn1 e1 (h1.1 91 0 c)) :
    mP (fT3 X2 D c lv h1) (fun v h' => qK t n pa vis sy c bd lv u L h v h' (bnd (lft u (bnd (R2 ts) fun e2 => bnd (endS e2.2) fun _ => .inr (sy2, e1, e2.1))) fun z => bnd (proS pa m (lv + 1) (sy.length :: vis) z.1 L) fun x => .inr (F z.2.1 z.2.2 x.1, x.2))) := sorry
theorem fG0 {h1 : mj_H} {ts : List Tok} (PK : TrK pa m) (hbd : bd ≤ 3300) (hlv : lv ≤ 15) (hm : (16 - lv) + (200 - sy.length) ≤ m) (hL : L.length ≤ 2990) (hD : 4 * m + 81 ≤ D) (hI : mvI I) (x1 : xB X1) (g1 : xG I t n u i sy2 vis L X1 R1) (x2 : xB X2) (g2 : xG I t n u i sy2 vis L X2 R2) (hQ : fQ I pa w u c sy.length F)
    (a : TX t n h1 sy2 vis 0 (c + 1) u i ts L) (hne : (hd ts).1 ≠ 0) (g : tW c sy.length vis.length h h1) (x : sX sy sy2) (hs : sy.length < sy2.length) (hv : vis.length ≤ sy.length + 2) (hP : TPA h1 sy2 vis pa) (h0 : srO sy2 sy.length ≠ 0) (hb : c + 1 + ts.length + wt L ≤ bd) (N : fN w u c sy.length h1) :
    mP (fT0 X1 X2 D c lv h1) (fun v h' => qK t n pa vis sy c bd lv u L h v h' (bnd (lft u (bnd (tkS (isS 61 (hd ts.tail)) ts.tail) fun r => bnd (R1 r) fun e1 => bnd (tkS (isW 13 (hd e1.2)) e1.2) fun r2 => bnd (R2 r2) fun e2 => bnd (endS e2.2) fun _ => .inr (sy2, e1.1, e2.1))) fun z => bnd (proS pa m (lv + 1) (sy.length :: vis) z.1 L) fun x => .inr (F z.2.1 z.2.2 x.1, x.2))) := sorry
end

