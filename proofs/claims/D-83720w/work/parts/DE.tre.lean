/-! the twin's reader: a guard, whole -/
def grH (sy : List Sym) (vis : List Nat) (place : Nat) (y : Tm) (r : List Tok) : Rs ((Tm × Tm × Tm) × List Tok) :=
  if isS 38 (hd r) || isO (hd r) then
    bnd (chkS (okVal sy y) 4 place) fun _ =>
    bnd (behS (expS sy vis 8) sy vis 0 y r) fun e => grB sy vis e.1 e.2
  else grC sy vis y place r
theorem isO_63 {k : Tok} (h : isS 63 k = true) : isS 38 k = false ∧ isO k = false := sorry
theorem gd_99 {t : Nat → Nat} {n D c nn1 u i s place bd : Nat} {row : Bool} {x2 x5 : Int32} {y : Tm} {h h1 : mj_H} {sy : List Sym} {vis : List Nat} {ts : List Tok} {L : List PL} (a : TX t n h1 sy vis 0 nn1 u i ts L) (g : tN c h h1) (N : gNt u c nn1 h1) (h89 : h1.1 89 0 c = 0) (h90 : h1.1 90 0 c = 0 ∧ h1.1 91 0 c = 0) (hs : inSy sy s) (hb : nn1 + ts.length ≤ bd) (hbd : bd ≤ 3399) (hD : 64 ≤ D)
    (ix : (x5 = 0 ∧ y = .arg s ∧ row = false) ∨ ∃ e l, y = .elem (.arg s) e ∧ x5 = nI l ∧ row = true ∧ tE u (c + 1) nn1 h1 e l) :
    mP (mj_R mg D mq_256 (99, [(6, vI (bI row)), (5, vI x5), (4, vI (nI (tw s))), (3, vI (nI place)), (2, vI x2), (1, vI (nI c)), (0, vR 15 0)], [], h1)) (fun v h' => qG t n sy vis c u L bd h v h' (fG (grH sy vis place y ts))) := sorry
theorem t_guard {t : Nat → Nat} {n D nn u i : Nat} {h : mj_H} {sy : List Sym} {vis : List Nat} {ts : List Tok} {L : List PL} (a : TX t n h sy vis 0 nn u i ts L) (hb : nn + ts.length ≤ 3390) (hD : 70 ≤ D) :
    mP (mj_R mg D mq_256 (0, [(0, vR 15 0)], [], h)) (fun v h' => qG t n sy vis nn u L (nn + ts.length) h v h' (grdS sy vis ts)) := sorry
