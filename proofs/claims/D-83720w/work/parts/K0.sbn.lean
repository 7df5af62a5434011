/-! (S): PAR: branches come to be -/
/-- a branch: how far below, where it begins, its row, what is known there -/
abbrev Br := Nat × Nat × Nat × Sg
/-- rights are a part of rights -/
def subB (a b : Nat) : Prop := a &&& b = a
/-- the header's words are dropped -/
def hdG (G : Int → Kd) (q : Nat) : Int → Kd := fun o => if (q : Int) ≤ o ∧ o < q + 3 then k0 else G o
/-- a branch fits what is known above -/
def brOK (G : Int → Kd) (wr : Nat → Nat) (q lo : Nat) (B : Br) : Prop := rAny B.2.2.2 ∧ (zL B.2.2.2).2.1 = [] ∧ (zR B.2.2.2).1 = 0 ∧ zU B.2.2.2 = (2, (B.1 : Int), (q : Int)) ∧ 3 ≤ (zI B.2.2.2).1 ∧ 1 ≤ (zI B.2.2.2).2 ∧ B.1 + (zI B.2.2.2).1 ≤ lo ∧ (zI B.2.2.2).2 + 3 ≤ B.1 ∧
  (∀ off, (zG B.2.2.2 off).1 = 0 ∨ ((zG B.2.2.2 off).1 = 1 ∧ (G (off - B.1)).1 = 1) ∨ ((zG B.2.2.2 off).1 = 2 ∧ (G (off - B.1)).1 = 2 ∧ subB (zG B.2.2.2 off).2.1 (G (off - B.1)).2.1) ∨ ((zG B.2.2.2 off).1 = 21 ∧ (G (off - B.1)).1 = 21 ∧ (zG B.2.2.2 off).2.1 ≤ (G (off - B.1)).2.1) ∨ ((zG B.2.2.2 off).1 = 22 ∧ (G (off - B.1)).1 = 22 ∧ subB (zG B.2.2.2 off).2.1 (G (off - B.1)).2.1)) ∧
  ∀ c, c < 14 → subB (zW B.2.2.2 c) (wr c)
/-- two branches are apart -/
def brAp (B B' : Br) : Prop := (B.1 + (zI B.2.2.2).1 + (zI B'.2.2.2).2 ≤ B'.1 ∨ B'.1 + (zI B'.2.2.2).1 + (zI B.2.2.2).2 ≤ B.1) ∧
  (∀ r, r = 4 ∨ r = 8 → (∀ off off' : Int, off - B.1 = off' - B'.1 → btS (zG B.2.2.2 off) &&& r ≠ 0 → btS (zG B'.2.2.2 off') &&& r ≠ 0 → False) ∧ ∀ c, c < 14 → zW B.2.2.2 c &&& r ≠ 0 → zW B'.2.2.2 c &&& r ≠ 0 → False)
/-- has a branch a right there -/
def rtB (m : Nat → Int32) (W : Nat) (B : Br) (r a : Nat) : Prop := (∃ off, btS (zG B.2.2.2 off) &&& r ≠ 0 ∧ adS (zG B.2.2.2) m (W - B.1) off = a) ∨ (a < 14 ∧ zW B.2.2.2 a &&& r ≠ 0)
/-- whose a word is -/
def fnB (Bs : List Br) (W x : Nat) : Option Br := Bs.find? fun B => decide (W ≤ x + (zI B.2.2.2).1 + B.1 ∧ x + B.1 < W + (zI B.2.2.2).2)
def chT (W pri : Nat) (A : List Nat) (B : Br) : Th := ([(W - B.1, B.2.1, B.2.2.2)], (8, 0, if B.2.2.1 = 0 then 0 else pri), (W - B.1 - (zI B.2.2.2).1, W - B.1 + (zI B.2.2.2).2), A, [], (0, 0))
def qFk (Q : Thr) (t : Nat) (th' : Th) (W pri : Nat) (A : List Nat) (Bs : List Br) : Thr := fun b => if b = t then some th' else match fnB Bs W b with
  | some B => if b + B.1 = W then some (chT W pri A B) else Q b
  | none => Q b
def gFk (g : Gh) (W q : Nat) (Bs : List Br) (Sd Tk : Nat → Nat) : Gh := (fun x => match fnB Bs W x with
  | some B => W - B.1
  | none => g.1 x, fun x => match fnB Bs W x with
  | some B => if W ≤ x + 3 + B.1 ∧ x + B.1 ≤ W then 4 else 1
  | none => if W + q ≤ x ∧ x < W + q + 3 then 4 else g.2.1 x, Sd, Tk)
theorem sub_r {a b r : Nat} (h : subB a b) (h' : a &&& r ≠ 0) : b &&& r ≠ 0 := fun y => h' (by
  have h : a &&& b = a := h
  rw [← h, Nat.and_assoc, y, Nat.and_zero])
theorem sub_2 {a b a' b' : Nat} (h : subB a b) (h' : subB a' b') (n : a &&& a' ≠ 0) : b &&& b' ≠ 0 := by
  have := sub_r h n
  rw [Nat.and_comm] at this
  have := sub_r h' this
  rwa [Nat.and_comm] at this
theorem bit_ov {k x y : Nat} (hx : x &&& 2 ^ k ≠ 0) (hy : y &&& 2 ^ k ≠ 0) : x &&& y ≠ 0 := by
  have bt : ∀ v : Nat, v &&& 2 ^ k ≠ 0 → v.testBit k = true := by
    intro v hv
    cases c : v.testBit k with
    | true => rfl
    | false =>
      refine (hv (Nat.eq_of_testBit_eq fun i => ?_)).elim
      rw [Nat.testBit_and, Nat.zero_testBit, Nat.testBit_two_pow]
      by_cases ki : k = i
      · subst ki; rw [c]; rfl
      · rw [decide_eq_false ki, Bool.and_false]
  intro z
  have := congrArg (fun v => Nat.testBit v k) z
  simp only [Nat.testBit_and, bt x hx, bt y hy, Nat.zero_testBit] at this
  exact absurd this (by decide)
section
variable {Bs : List Br} {W x : Nat} {B : Br}
theorem fn_some (h : fnB Bs W x = some B) : B ∈ Bs ∧ W ≤ x + (zI B.2.2.2).1 + B.1 ∧ x + B.1 < W + (zI B.2.2.2).2 := by
  have h2 := List.find?_some (p := fun B : Br => decide (W ≤ x + (zI B.2.2.2).1 + B.1 ∧ x + B.1 < W + (zI B.2.2.2).2)) h
  exact ⟨List.mem_of_find?_eq_some h, of_decide_eq_true h2⟩
theorem fn_in (pw : ∀ B ∈ Bs, ∀ B' ∈ Bs, B ≠ B' → brAp B B') (hB : B ∈ Bs) (h1 : W ≤ x + (zI B.2.2.2).1 + B.1) (h2 : x + B.1 < W + (zI B.2.2.2).2) : fnB Bs W x = some B := by
  cases hf : fnB Bs W x with
  | none =>
    have := List.find?_eq_none.mp hf B hB
    exact absurd (decide_eq_true ⟨h1, h2⟩) this
  | some B' =>
    obtain ⟨a1, a2, a3⟩ := fn_some hf
    by_cases c : B = B'
    · rw [c]
    · have := (pw B hB B' a1 c).1
      omega
end
section
variable {C : Cx} {M : Nat} {E : En} {s s' : Cr} {w w' : Wd} {g : Gh} {Q : Thr} {t u b : Nat} {th tu tb : Th} {R : Nat → Sg → Prop} {j : Nat} {z : Sg}
theorem lnk_ct : ∀ (f : Fm) (r : List Fm), lnk C s g t (f :: r) → ∀ f' ∈ r, g.1 f'.1 = t
  | f, [], _, f', h => nomatch h
  | f, f1 :: r, h, f', hf => by
    obtain ⟨-, -, -, -, h6, -, -, -, -, h12⟩ := h
    rcases List.mem_cons.mp hf with y | y
    · subst y
      have := (h6 0 (by omega)).2
      rwa [Nat.sub_zero] at this
    · exact lnk_ct f1 r h12 f' y
/-- a process owns its base, which lies above its W -/
theorem own_b {W j : Nat} {z : Sg} {r : List Fm} (I : Inv C M s w g Q E) (e : Q t = some th) (ef : thF th = (W, j, z) :: r) : g.1 t = t ∧ W ≤ t := by
  obtain ⟨W0, j0, z0', r0, a1, a2, a3, a4, a5, a6, a7, a8, a9, a10, a11, a12, a13, a14⟩ := I.2.1 t th e
  rw [ef] at a1
  cases a1
  obtain ⟨u1, u2, u3, f, u4, u5, u6⟩ := a8
  rw [ef] at u4 a6
  cases r with
  | nil =>
    have u4 : (W, j, z) = f := Option.some.inj u4
    subst u4
    have u5 : W = t := u5
    subst u5
    have := (a13 0 (by omega)).2
    rw [Nat.sub_zero] at this
    exact ⟨this, Nat.le_refl _⟩
  | cons f1 r =>
    rw [List.getLast?_cons_cons] at u4
    have hm := List.mem_of_getLast? u4
    have k1 := lnk_ct _ _ a6 f hm
    have k2 := (lnk_up _ _ a6 f hm).1
    rw [u5] at k1 k2
    have k2 : W + (zI z).2 + 4 ≤ t := k2
    exact ⟨k1, by omega⟩
/-- those above are there -/
theorem anc_ex (I : Inv C M s w g Q E) : ∀ (n : Nat) (b : Nat) (tb : Th), Q b = some tb → (thA tb).length ≤ n → ∀ v ∈ thA tb, ∃ tv, Q v = some tv := by
  intro n
  induction n with
  | zero =>
    intro b tb _ hl v hv
    rw [List.length_eq_zero_iff.mp (Nat.le_zero.mp hl)] at hv
    exact nomatch hv
  | succ n ih =>
    intro b tb eb hl v hv
    obtain ⟨W0, j0, z0', r0, a1, a2, a3, a4, a5, a6, a7, a8, -⟩ := I.2.1 b tb eb
    obtain ⟨-, -, -, f, -, -, h6⟩ := a8
    revert h6 hv hl
    cases thA tb with
    | nil => intro _ y; exact nomatch y
    | cons u r =>
      rintro hl hv ⟨-, tu, fu, ru, k2, k3, k4, -⟩
      rcases List.mem_cons.mp hv with y | y
      · subst y; exact ⟨tu, k2⟩
      · exact ih u tu k2 (by rw [k3]; rw [List.length_cons] at hl; omega) v (by rw [k3]; exact y)
/-- an address through a branch's word is one through the word above -/
theorem ad_br {m : Nat → Int32} {G G' : Int → Kd} {W d : Nat} {off : Int} (hd : d ≤ W) (h : (G' off).1 = 22 ↔ (G (off - d)).1 = 22) : adS G' m (W - d) off = adS G m W (off - d) := by
  have e : ((W - d : Nat) : Int) + off = W + (off - d) := by omega
  unfold adS
  rw [e]
  by_cases c : (G' off).1 = 22
  · rw [if_pos c, if_pos (h.mp c)]
  · rw [if_neg c, if_neg (fun y => c (h.mpr y))]
/-- what a branch has, the one above had -/
theorem rt_par {W q : Nat} {r : List Fm} {m : Nat → Int32} {B : Br} {rg a : Nat} (I : Inv C M s w g Q E) (e : Q t = some th) (e0 : thS th = 0) (ef : thF th = (W, j, z) :: r) (k : thK th = []) (hG : ∀ off, (zG z off).1 ≠ 0 → 0 < off) (em : ∀ x, ¬ (W + q ≤ x ∧ x < W + q + 3) → m x = s.2.1 x) (hb : brOK (hdG (zG z) q) (zW z) q (zI z).1 B) (hr : rg = 4 ∨ rg = 8) (h : rtB m W B rg a) :
    (rg = 4 → g.2.2.1 a = t) ∧ (rg = 8 → g.2.2.2 a = t) ∧ ((∃ o : Int, ¬ ((q : Int) ≤ o ∧ o < q + 3) ∧ btS (zG z o) &&& rg ≠ 0 ∧ adS (zG z) s.2.1 W o = a ∧ ∃ off, off - B.1 = o ∧ btS (zG B.2.2.2 off) &&& rg ≠ 0) ∨ (a < 14 ∧ zW z a &&& rg ≠ 0 ∧ zW B.2.2.2 a &&& rg ≠ 0)) := by
  obtain ⟨hE, -⟩ := fE_i I e e0 ef
  have wk0 := hE.2.2.2.2.2.2.2.2.1
  have wi0 := hE.2.2.2.2.2.2.2.2.2.1
  have hM := I.1.2
  obtain ⟨b1, b2, b3, b4, b5, b6, b7, b8, b9, b10⟩ := hb
  have hW := hE.2.2.2.2.2.1
  have fin : ∀ n, n &&& rg ≠ 0 → okH M g Q (t :: thA th) t n a → (rg = 4 → g.2.2.1 a = t) ∧ (rg = 8 → g.2.2.2 a = t) := fun n hn ho => ⟨fun y => bel_1 I e k (ho.2.2.2.1 (y ▸ hn)), fun y => bel_1 I e k (ho.2.2.2.2 (y ▸ hn))⟩
  rcases h with ⟨off, h1, h2⟩ | ⟨h1, h2⟩
  · have nh : ¬ ((q : Int) ≤ off - B.1 ∧ off - B.1 < q + 3) := fun y => by
      have e0 : hdG (zG z) q (off - B.1) = k0 := if_pos y
      unfold btS at h1
      rcases b9 off with q1 | ⟨q1, q2⟩ | ⟨q1, q2, q3⟩ | ⟨q1, q2, q3⟩ | ⟨q1, q2, q3⟩
      · rw [q1, if_neg (by omega), Nat.zero_and] at h1; exact h1 rfl
      · rw [q1, if_neg (by omega), Nat.zero_and] at h1; exact h1 rfl
      · rw [e0] at q2; exact absurd q2 (by decide)
      · rw [e0] at q2; exact absurd q2 (by decide)
      · rw [e0] at q2; exact absurd q2 (by decide)
    have eo : hdG (zG z) q (off - B.1) = zG z (off - B.1) := if_neg nh
    have key : ((zG B.2.2.2 off).1 = 22 ↔ (zG z (off - B.1)).1 = 22) ∧ btS (zG z (off - B.1)) &&& rg ≠ 0 := by
      have b := b9 off
      rw [eo] at b
      unfold btS at h1 ⊢
      rcases b with q1 | ⟨q1, q2⟩ | ⟨q1, q2, q3⟩ | ⟨q1, q2, q3⟩ | ⟨q1, q2, q3⟩
      · rw [q1, if_neg (by omega), Nat.zero_and] at h1; exact (h1 rfl).elim
      · rw [q1, if_neg (by omega), Nat.zero_and] at h1; exact (h1 rfl).elim
      · rw [q1, if_pos (Or.inl rfl)] at h1
        rw [q2, if_pos (Or.inl rfl)]
        exact ⟨by rw [q1], sub_r q3 h1⟩
      · rw [q1, if_neg (by omega), Nat.zero_and] at h1; exact (h1 rfl).elim
      · rw [q1, if_pos (Or.inr rfl)] at h1
        rw [q2, if_pos (Or.inr rfl)]
        exact ⟨by rw [q1], sub_r q3 h1⟩
    have em2 : adS (zG z) m W (off - B.1) = adS (zG z) s.2.1 W (off - B.1) := by
      unfold adS
      split
      · rename_i c
        have := hG (off - B.1) (by omega)
        rw [em _ (by omega)]
      · rfl
    rw [ad_br (by omega) key.1, em2] at h2
    have hx : (rg = 4 → g.2.2.1 a = t) ∧ (rg = 8 → g.2.2.2 a = t) := by
      have kb := key.2
      unfold btS at kb
      split at kb
      · rename_i c
        rcases c with c | c
        · obtain ⟨a', a1, -, a2⟩ := wk_2 (wk0 _) c
          have : adS (zG z) s.2.1 W (off - B.1) = a' := by
            unfold adS
            rw [if_neg (by omega), a1]
            rfl
          rw [this] at h2
          subst h2
          exact fin _ kb a2
        · obtain ⟨-, -, -, -, -, -, -, h22⟩ := wk_h (wk0 (off - B.1)) (by omega)
          obtain ⟨a', a1, a2, a3⟩ := h22 c
          have a1 : s.2.1 (W + (off - B.1)).toNat = nI a' := a1
          have : adS (zG z) s.2.1 W (off - B.1) = a' := by
            unfold adS
            rw [if_pos c, a1, nI_clamp (by have := a3.1; omega)]
          rw [this] at h2
          subst h2
          exact fin _ kb a3
      · rw [Nat.zero_and] at kb; exact (kb rfl).elim
    exact ⟨hx.1, hx.2, Or.inl ⟨off - B.1, nh, key.2, h2, off, rfl, h1⟩⟩
  · have hs := sub_r (b10 a h1) h2
    have hx := fin _ hs (wi0 a h1)
    exact ⟨hx.1, hx.2, Or.inr ⟨h1, hs, h2⟩⟩
/-- one branch alone has a right -/
theorem rt_un {W q : Nat} {r : List Fm} {m : Nat → Int32} {B B' : Br} {rg a : Nat} (I : Inv C M s w g Q E) (e : Q t = some th) (e0 : thS th = 0) (ef : thF th = (W, j, z) :: r) (k : thK th = []) (hG : ∀ off, (zG z off).1 ≠ 0 → 0 < off) (em : ∀ x, ¬ (W + q ≤ x ∧ x < W + q + 3) → m x = s.2.1 x) (hb : brOK (hdG (zG z) q) (zW z) q (zI z).1 B) (hb' : brOK (hdG (zG z) q) (zW z) q (zI z).1 B') (ap : brAp B B') (hr : rg = 4 ∨ rg = 8) (h : rtB m W B rg a) (h' : rtB m W B' rg a) : False := by
  obtain ⟨hE, -⟩ := fE_i I e e0 ef
  have ij := hE.2.2.2.2.2.2.2.2.2.2
  have bo : ∀ x y : Nat, x &&& rg ≠ 0 → y &&& rg ≠ 0 → x &&& y ≠ 0 := by
    intro x y hx hy
    rcases hr with rfl | rfl
    · exact bit_ov (k := 2) hx hy
    · exact bit_ov (k := 3) hx hy
  obtain ⟨-, -, p⟩ := rt_par I e e0 ef k hG em hb hr h
  obtain ⟨-, -, p'⟩ := rt_par I e e0 ef k hG em hb' hr h'
  rcases p with ⟨o, p1, p2, p3, off, p4, p5⟩ | ⟨p1, p2, p3⟩
  · rcases p' with ⟨o', q1, q2, q3, off', q4, q5⟩ | ⟨q1, q2, q3⟩
    · by_cases c : o = o'
      · exact (ap.2 rg hr).1 off off' (by rw [p4, q4, c]) p5 q5
      · exact ij.1 o o' c (bo _ _ p2 q2) (p3.trans q3.symm)
    · exact ij.2 o a q1 (bo _ _ p2 q2) p3
  · rcases p' with ⟨o', q1, q2, q3, off', q4, q5⟩ | ⟨q1, q2, q3⟩
    · exact ij.2 o' a p1 (bo _ _ q2 p2) q3
    · exact (ap.2 rg hr).2 a p1 p3 q3
end
