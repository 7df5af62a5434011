/-! the code of processes -/
def isNl : Tm → Bool
  | .null => true
  | _ => false
section
variable (sy : List Sym) (pz : List (Nat × Nat)) (pa : List (List Nat))
def nCa : List Nat → Tm → Nat
  | q :: qs, .elem a as => (if srO sy q = 3 then nE sy a else nD sy a) + 1 + nCa qs as
  | _, _ => 0
/-- a guard's three rows ahead -/
def nG1 (e c : Tm) : Nat := (if isNl e then 1 else nE sy e) + 1 + (if isNl c then 0 else nD sy c + 1)
def nG2 (c : Tm) : Nat := if isNl c then 2 else 3
def nH1 : Tm → Nat
  | .elem (.div (.index _) (.elem e (.elem c (.elem _ _)))) gs => nG1 sy e c + nH1 gs
  | _ => 0
def nH2 : Tm → Nat
  | .elem (.div (.index _) (.elem _ (.elem c (.elem _ _)))) gs => nG2 c + nH2 gs
  | _ => 0
def nH3 : Tm → Nat
  | .elem (.div (.index _) (.elem _ (.elem c (.elem _ _)))) gs => nG2 c + 1 + nH3 gs
  | _ => 0
def nAs : Tm → Nat
  | .arg s => if srO sy s = 2 then 1 else 2
  | v => nD sy v + 1
def nQ : Tm → Nat → Nat
  | .div (.index _) (.rem (.elem (.index _) (.index c)) p), 0 => 4 * c + nQ p 0
  | .div (.index _) .result, 0 => 1
  | .div (.index _) (.add v e), 0 => nE sy e + nAs sy v
  | .div (.index _) (.sub c e), 0 => nE sy e + nD sy c + 1
  | .div (.index _) (.mul c v), 0 => nD sy v + nD sy c + 1
  | .div (.index _) (.elem (.index p) as), 0 => nCa sy (pa.getD p []) as + 1
  | .div (.index _) (.length ps), 0 => nQ ps 1
  | .div (.index _) (.rem (.arg _) (.elem (.elem e1 e2) p)), 0 => nE sy e1 + nE sy e2 + nQ p 0 + 13
  | .div (.index _) (.sum (.elem (.index _) ps)), 0 => 8 + 4 * tmN ps + nQ ps 4
  | .div (.index _) (.old (.elem (.index _) ps)), 0 => 8 + 4 * tmN ps + nQ ps 4
  | .div (.index _) (.rem (.index _) (.elem (.elem (.index _) (.index m)) p)), 0 => 8 + 4 * m + m * (nQ p 0 + 2)
  | .div (.index _) (.rem .null gs), 0 => nQ gs 2 + 1
  | .div (.index _) (.div e p), 0 => nE sy e + nQ p 0 + 2
  | .div (.index _) (.rem .result gs), 0 => nH1 sy gs + nH2 gs + nH3 gs + 3 + nQ gs 3
  | .elem p ps, 1 => nQ p 0 + nQ ps 1
  | .elem (.elem e p) gs, 2 => nE sy e + nQ p 0 + 2 + nQ gs 2
  | .elem (.div (.index _) (.elem _ (.elem c (.elem v p)))) gs, 3 => (if isNl c then 0 else nD sy v + 2) + nQ p 0 + 1 + nQ gs 3
  | .elem p ps, 4 => nQ p 0 + 2 + nQ ps 4
  | _, _ => 0
def blk (p : Tm) : Nat := 1 + (mz sy pz p 0).1 + (mz sy pz p 0).2 + 3
def wdO (rh : Nat → Nat × Nat) (D : Nat → Int32) : Nat → Int32 := fun s => D (rh s).1 + nI (rh s).2
def upD (rh : Nat → Nat × Nat) (s c lv q : Nat) : Nat → Nat × Nat := fun t => if s ≤ t ∧ t < s + c then (lv, q + dsz sy s (t - s)) else rh t
def upF (rh : Nat → Nat × Nat) (s lv q : Nat) : Nat → Nat × Nat := fun t => if t = s then (lv, q) else rh t
def shD (D : Nat → Int32) (lv d : Nat) : Nat → Int32 := fun l => if l = lv + 1 then 0 else D l + nI d
/-- a branch is started: it begins at st, lies d below -/
def hB1 (a st d o : Nat) : List It := [iB 4 st (a + 2), iO 13, iV 1 (-(nI d)), iO o]
def hB : Bool → Tm → Nat → Nat → Nat → List It
  | pri, .elem p ps, a, st, b => hB1 a st (b + 1 + (mz sy pz p 0).1) (if pri then 16 else 15) ++ hB false ps (a + 4) (st + nQ sy pa p 0 + 2) (b + blk sy pz p)
  | _, _, _, _, _ => []
def hdQ (a w many beh : Nat) : List It := [iB 4 beh (a + 2), iO 13, iV 13 (nI w), iV 4 (nI many), iV 13 (nI (w + 1)), iO 30, iV 13 (nI (w + 2))]
def dcI (s lv q : Nat) (D : Nat → Int32) (c : Nat) : List It := catN (fun k => [iV 4 (if srO sy (s + k) = 7 ∨ srO sy (s + k) = 9 then -1 else 0), iV 4 (nI (wsz sy (s + k))), iV 1 (D lv + nI (q + dsz sy s k)), iO 14]) c
section
variable (wd r : Nat → Int32)
def kC (sz : Nat) : Nat → List Nat → Tm → Nat → Nat → List It
  | k, q :: qs, .elem x as, f, a => (if srO sy q = 3 then kE sy wd r x f a else kA sy wd r x f a) ++ iV 13 (nI (k + 1) - 7 - nI sz) :: kC sz (k + 1) qs as f (a + (if srO sy q = 3 then nE sy x else nD sy x) + 1)
  | _, _, _, _, _ => []
def kAs : Tm → Nat → Nat → List It
  | .arg s, f, a => if srO sy s = 2 then [iV 13 (wd s)] else kA sy wd r (.arg s) f a ++ [iV 14 0]
  | v, f, a => kA sy wd r v f a ++ [iV 14 0]
/-- ALT: what its guards are, they are enabled, disabled -/
def kG1 (e c : Tm) (w f a : Nat) : List It := (if isNl e then [iV 4 1] else kE sy wd r e f a) ++ iV 13 (nI w) :: (if isNl c then [] else kA sy wd r c f (a + (if isNl e then 1 else nE sy e) + 1) ++ [iV 13 (nI (w + 1))])
def kH1 : Tm → Nat → Nat → Nat → List It
  | .elem (.div (.index _) (.elem e (.elem c (.elem _ _)))) gs, w, f, a => kG1 sy wd r e c w f a ++ kH1 gs (w + 2) f (a + nG1 sy e c)
  | _, _, _, _ => []
end
def kG2 (c : Tm) (w o1 o2 : Nat) : List It := if isNl c then [iV 7 (nI w), iO o1] else [iV 7 (nI w), iV 7 (nI (w + 1)), iO o2]
def kH2 : Tm → Nat → List It
  | .elem (.div (.index _) (.elem _ (.elem c (.elem _ _)))) gs, w => kG2 c w 24 23 ++ kH2 gs (w + 2)
  | _, _ => []
def nB3 (c v p : Tm) : Nat := (if isNl c then 0 else nD sy v + 2) + nQ sy pa p 0 + 1
def kH3 : Tm → Nat → Nat → Nat → List It
  | .elem (.div (.index _) (.elem _ (.elem c (.elem v p)))) gs, w, st, bs => iB 4 st bs :: (kG2 c w 27 26 ++ kH3 gs (w + 2) (st + nB3 sy pa c v p) bs)
  | _, _, _, _ => []
/-- names' places, distances, level, free word, indexes, place; x and y: the end (2); a word and the end (3); what lies below and a word (4) -/
def kP : Tm → Nat → (Nat → Nat × Nat) → (Nat → Int32) → Nat → Nat → (Nat → Int32) → Nat → Nat → Nat → List It
  | .div (.index _) (.rem (.elem (.index s) (.index c)) p), 0, rh, D, lv, q, r, a, _, _ => dcI sy s lv q D c ++ kP p 0 (upD sy rh s c lv q) D lv (q + dsz sy s c) r (a + 4 * c) 0 0
  | .div (.index _) .result, 0, _, _, _, _, _, _, _, _ => [iO 18]
  | .div (.index _) (.add v e), 0, rh, D, _, q, r, a, _, _ => kE sy (wdO rh D) r e q a ++ kAs sy (wdO rh D) r v q (a + nE sy e)
  | .div (.index _) (.sub c e), 0, rh, D, _, q, r, a, _, _ => kE sy (wdO rh D) r e q a ++ kA sy (wdO rh D) r c q (a + nE sy e) ++ [iO 21]
  | .div (.index _) (.mul c v), 0, rh, D, _, q, r, a, _, _ => kA sy (wdO rh D) r v q a ++ kA sy (wdO rh D) r c q (a + nD sy v) ++ [iO 20]
  | .div (.index _) (.elem (.index p) as), 0, rh, D, _, q, r, a, _, _ => kC sy (wdO rh D) r (pz.getD p (0, 0)).1 0 (pa.getD p []) as q a ++ [iC p]
  | .div (.index _) (.length ps), 0, rh, D, lv, q, r, a, _, _ => kP ps 1 rh D lv q r a 0 0
  | .div (.index _) (.rem (.arg s) (.elem (.elem e1 e2) p)), 0, rh, D, lv, q, r, a, _, _ =>
    kE sy (wdO (upF rh s lv q) D) r e1 (q + 2) a ++ iV 13 (D lv + nI q) :: (kE sy (wdO (upF rh s lv q) D) r e2 (q + 2) (a + nE sy e1 + 1) ++ [iV 13 (D lv + nI q + 1), iV 7 (D lv + nI q + 1), iV 4 0, iO 6, iW 10 (a + nE sy e1 + nE sy e2 + nQ sy pa p 0 + 13)]
      ++ kP p 0 (upF rh s lv q) D lv (q + 2) r (a + nE sy e1 + nE sy e2 + 6) 0 0 ++ [iV 7 (D lv + nI q), iV 8 1, iV 13 (D lv + nI q), iV 7 (D lv + nI q + 1), iV 8 (-1), iV 13 (D lv + nI q + 1), iW 0 (a + nE sy e1 + nE sy e2 + 2)])
  | .div (.index _) (.sum (.elem (.index _) ps)), 0, rh, D, lv, q, r, a, _, _ => hdQ a q (tmN ps) (a + 8 + 4 * tmN ps + nQ sy pa ps 4) ++ hB sy pz pa false ps (a + 7) (a + 8 + 4 * tmN ps) 3 ++ iO 18 :: kP ps 4 rh D lv q r (a + 8 + 4 * tmN ps) 3 q
  | .div (.index _) (.old (.elem (.index _) ps)), 0, rh, D, lv, q, r, a, _, _ => hdQ a q (tmN ps) (a + 8 + 4 * tmN ps + nQ sy pa ps 4) ++ hB sy pz pa true ps (a + 7) (a + 8 + 4 * tmN ps) 3 ++ iO 18 :: kP ps 4 rh D lv q r (a + 8 + 4 * tmN ps) 3 q
  | .div (.index _) (.rem (.index s) (.elem (.elem (.index b) (.index m)) p)), 0, rh, D, lv, q, r, a, _, _ =>
    hdQ a q m (a + 8 + 4 * m + m * (nQ sy pa p 0 + 2)) ++ catN (fun k => hB1 (a + 7 + 4 * k) (a + 8 + 4 * m + k * (nQ sy pa p 0 + 2)) (3 + k * blk sy pz p + 1 + (mz sy pz p 0).1) 15) m ++ iO 18 ::
      catN (fun k => kP p 0 rh (shD D lv (3 + k * blk sy pz p + 1 + (mz sy pz p 0).1)) (lv + 1) 1 (upE r s (nI (b + k))) (a + 8 + 4 * m + k * (nQ sy pa p 0 + 2)) 0 0 ++ [iV 1 (D lv + nI (3 + k * blk sy pz p + 1 + (mz sy pz p 0).1) + nI q), iO 17]) m
  | .div (.index _) (.rem .null gs), 0, rh, D, lv, q, r, a, _, _ => kP gs 2 rh D lv q r a (a + nQ sy pa gs 2 + 1) 0 ++ [iO 29]
  | .div (.index _) (.div e p), 0, rh, D, lv, q, r, a, _, _ => kE sy (wdO rh D) r e q a ++ iW 10 (a + nE sy e + nQ sy pa p 0 + 2) :: (kP p 0 rh D lv q r (a + nE sy e + 1) 0 0 ++ [iW 0 a])
  | .div (.index _) (.rem .result gs), 0, rh, D, lv, q, r, a, _, _ =>
    kH1 sy (wdO rh D) r gs q (q + 2 * tmN gs) a ++ iO 22 :: (kH2 gs q ++ iO 25 :: (kH3 sy pa gs q (a + nH1 sy gs + nH2 gs + nH3 gs + 3) (a + nH1 sy gs + nH2 gs + nH3 gs + 3) ++ iO 28 ::
      kP gs 3 rh D lv (q + 2 * tmN gs) r (a + nH1 sy gs + nH2 gs + nH3 gs + 3) q (a + nH1 sy gs + nH2 gs + nH3 gs + 3 + nQ sy pa gs 3)))
  | .elem p ps, 1, rh, D, lv, q, r, a, _, _ => kP p 0 rh D lv q r a 0 0 ++ kP ps 1 rh D lv q r (a + nQ sy pa p 0) 0 0
  | .elem (.elem e p) gs, 2, rh, D, lv, q, r, a, x, _ => kE sy (wdO rh D) r e q a ++ iW 10 (a + nE sy e + nQ sy pa p 0 + 2) :: (kP p 0 rh D lv q r (a + nE sy e + 1) 0 0 ++ iW 0 x :: kP gs 2 rh D lv q r (a + nE sy e + nQ sy pa p 0 + 2) x 0)
  | .elem (.div (.index _) (.elem _ (.elem c (.elem v p)))) gs, 3, rh, D, lv, q, r, a, w, x =>
    (if isNl c then [] else kA sy (wdO rh D) r v q a ++ [iV 7 (nI (w + 1)), iO 20]) ++ kP p 0 rh D lv q r (a + (if isNl c then 0 else nD sy v + 2)) 0 0 ++ iW 0 x :: kP gs 3 rh D lv q r (a + nB3 sy pa c v p) (w + 2) x
  | .elem p ps, 4, rh, D, lv, q, r, a, b, w => kP p 0 rh (shD D lv (b + 1 + (mz sy pz p 0).1)) (lv + 1) 1 r a 0 0 ++ iV 1 (D lv + nI (b + 1 + (mz sy pz p 0).1) + nI w) :: iO 17 :: kP ps 4 rh D lv q r (a + nQ sy pa p 0 + 2) (b + blk sy pz p) w
  | _, _, _, _, _, _, _, _, _, _ => []
end

