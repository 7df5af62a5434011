/-! how many signs: tokens, lines -/
/-- a name's signs: one only if it is a single letter -/
def nc : List Nat → Nat
  | [c] => if isSm c then 1 else 2
  | _ => 2
theorem nc_1 (cs : List Nat) : 1 ≤ nc cs := by
  unfold nc
  split
  · split <;> omega
  · omega
def tc (k : Tok) : Nat := if k.1 = 1 then nc k.2.2.2 else if k.1 = 2 then mt_sln (k.2.2.1 - 1) else if k.1 = 3 then 1 else if k.1 = 4 then (if k.2.2.1 < 256 then 1 else 2) else 0
def cT : List Tok → Nat
  | [] => 0
  | k :: r => tc k + cT r
def cL : List PL → Nat
  | [] => 0
  | x :: r => x.2.1 + cT x.2.2 + 1 + cL r
theorem wdL_ln {t : Nat → Nat} {f j : Nat} : ∀ n, wdL t f j n ≠ 0 → mt_sln (wdL t f j n - 1) = j - f
  | 0, h => (h rfl).elim
  | n + 1, h => by
    rw [wdL] at h ⊢
    cases hw : wdM t f j n with
    | true =>
      rw [wdM, Bool.and_eq_true] at hw
      show mt_sln (n + 1 - 1) = j - f
      rw [Nat.add_sub_cancel]
      exact Nat.beq_eq.mp hw.1
    | false =>
      rw [hw] at h
      exact wdL_ln n h
theorem tc_le {t : Nat → Nat} {b e p : Nat} (hl : t p < 128) (h : p < e) : p + tc (tkA t b e p) ≤ tkZ t e p := by
  have hz := tkZ_spec hl h
  have hn : ¬ e ≤ p := by omega
  unfold tkA tkZ at *
  rw [if_neg hn, if_neg hn]
  rw [if_neg hn] at hz
  by_cases h1 : isSm (t p) = true
  · rw [if_pos h1] at hz
    rw [if_pos h1, if_pos h1]
    by_cases h2 : 10 < idE t e p - p
    · rw [if_pos h2]
      show p + 0 ≤ _
      omega
    · rw [if_neg h2]
      show p + nc (chF t p (idE t e p - p)) ≤ _
      by_cases h3 : idE t e p - p = 1
      · rw [h3, show chF t p 1 = [t p] from rfl, nc, if_pos h1]
        omega
      · have : nc (chF t p (idE t e p - p)) ≤ 2 := by
          unfold nc
          split
          · split <;> omega
          · omega
        omega
  rw [if_neg h1] at hz
  rw [if_neg h1, if_neg h1]
  by_cases h2 : isCp (t p) = true
  · rw [if_pos h2] at hz
    rw [if_pos h2, if_pos h2]
    by_cases h3 : wdL t p (cpE t e p) 23 = 0
    · rw [if_pos h3]
      show p + 0 ≤ _
      omega
    · rw [if_neg h3]
      show p + mt_sln (wdL t p (cpE t e p) 23 - 1) ≤ _
      rw [wdL_ln 23 h3]
      omega
  rw [if_neg h2] at hz
  rw [if_neg h2, if_neg h2]
  by_cases h3 : isDg (t p) = true
  · rw [if_pos h3] at hz
    rw [if_pos h3, if_pos h3]
    by_cases h4 : 10 < dgE t e p - p ∨ 2147483647 < nvE t p (dgE t e p)
    · rw [if_pos h4]
      show p + 0 ≤ _
      omega
    · rw [if_neg h4]
      show p + 1 ≤ _
      omega
  rw [if_neg h3] at hz
  rw [if_neg h3, if_neg h3]
  cases hs : sgL (t p) (chE t e (p + 1)) with
  | true =>
    show p + (if t p * 256 + chE t e (p + 1) < 256 then 1 else 2) ≤ p + 2
    split <;> omega
  | false =>
    cases hk : sgK (t p) with
    | true =>
      show p + (if t p < 256 then 1 else 2) ≤ p + 1
      rw [if_pos (by omega)]
      omega
    | false =>
      show p + 0 ≤ p + 1
      omega
theorem cT_le {t : Nat → Nat} {n b e : Nat} (hT : txOK t n) (he : e ≤ n) : ∀ m p, p ≤ e → cT (tkl t b e m p) ≤ e - p
  | 0, p, hp => by
    rw [tkl]
    by_cases h : p < e
    · have hl := chE_lt (t := t) (k := p) hT he
      rw [chE, if_pos h] at hl
      have h1 := tc_le (b := b) hl h
      have h2 := tkZ_spec hl h
      show tc (tkA t b e p) + 0 ≤ _
      omega
    · rw [tkA, if_pos (by omega)]
      exact Nat.zero_le _
  | m + 1, p, hp => by
    rw [tkl]
    by_cases h : e ≤ p
    · rw [if_pos h, tkA, if_pos h]
      exact Nat.zero_le _
    · rw [if_neg h]
      have hl := chE_lt (t := t) (k := p) hT he
      rw [chE, if_pos (by omega)] at hl
      have h1 := tc_le (b := b) hl (by omega : p < e)
      have h2 := tkZ_spec hl (by omega : p < e)
      have h3 := spE_spec (t := t) h2.2
      have h4 := cT_le (b := b) hT he m _ h3.2
      show tc (tkA t b e p) + cT (tkl t b e m _) ≤ _
      omega
theorem lns_c {t : Nat → Nat} {n : Nat} (hT : txOK t n) : ∀ m b u, u ≤ b → cL ((lns t n m b u).map (plF t)) ≤ n + 1 - b ∧ ∀ x ∈ (lns t n m b u).map (plF t), x.1 ≤ n
  | 0, b, u, hu => ⟨Nat.zero_le _, fun x hx => by cases hx⟩
  | m + 1, b, u, hu => by
    rw [lns]
    by_cases hb : n < b
    · rw [if_pos hb]; exact ⟨Nat.zero_le _, fun x hx => by cases hx⟩
    · rw [if_neg hb]
      obtain ⟨k1, k2⟩ := lnK_spec (t := t) (by omega : b ≤ n)
      obtain ⟨k3, k4⟩ := lnE_spec (t := t) k1
      obtain ⟨k5, k6⟩ := spE_spec (t := t) k3
      obtain ⟨i1, i2⟩ := lns_c hT m (lnK t n b + 1) (u + 1) (by omega)
      split
      · rw [List.map_cons]
        have hl := cT_le (t := t) (b := b) (e := lnE t (lnK t n b) b) hT (by omega) (lnE t (lnK t n b) b - spE t (lnE t (lnK t n b) b) b) (spE t (lnE t (lnK t n b) b) b) k6
        refine ⟨?_, fun x hx => ?_⟩
        · show (spE t (lnE t (lnK t n b) b) b - b) + cT (tkl t b (lnE t (lnK t n b) b) (lnE t (lnK t n b) b - spE t (lnE t (lnK t n b) b) b) (spE t (lnE t (lnK t n b) b) b)) + 1 + cL ((lns t n m (lnK t n b + 1) (u + 1)).map (plF t)) ≤ n + 1 - b
          omega
        · rcases List.mem_cons.mp hx with rfl | hx
          · show u ≤ n
            omega
          · exact i2 x hx
      · exact ⟨by omega, i2⟩
/-- the signs of a text -/
theorem txL_c {t : Nat → Nat} {n : Nat} (hT : txOK t n) : cL (txL t n) ≤ 3001 ∧ ∀ x ∈ txL t n, x.1 ≤ 3000 := by
  have hn := hT.1
  obtain ⟨h1, h2⟩ := lns_c hT (n + 1 - 0) 0 0 (Nat.le_refl _)
  refine ⟨?_, fun x hx => Nat.le_trans (h2 x hx) hn⟩
  show cL ((lns t n (n + 1 - 0) 0 0).map (plF t)) ≤ 3001
  omega
/-! the least signs of what is read -/
def ncs (sy : List Sym) (s : Nat) : Nat := nc (syO sy s).1
def cE (sy : List Sym) : Tm → Nat
  | .int _ => 1
  | .arg s => ncs sy s
  | .elem (.arg s) e => ncs sy s + 2 + cE sy e
  | .length e => 1 + cE sy e
  | .sum e => 3 + cE sy e
  | .old e => 2 + cE sy e
  | .add (.index o) (.sub x y) => cE sy x + cE sy y + if o = 65 ∨ o = 79 then 2 else 1
  | _ => 0
def cA (sy : List Sym) : Tm → Nat
  | .elem a r => cE sy a + 1 + cA sy r
  | _ => 0
/-- names from s on, c of them, each with a sign behind it -/
def cN (sy : List Sym) (s : Nat) : Nat → Nat
  | 0 => 0
  | c + 1 => cN sy s c + ncs sy (s + c) + 1
def cGd (sy : List Sym) (e c v : Tm) : Nat := (if e = .null then 0 else cE sy e + 1) + if c = .null then 4 else cE sy c + 1 + cE sy v
/-- modes as with mz (0 a process, 1 a row, 2 choices, 3 guards) -/
def cQ (sy : List Sym) : Tm → Nat → Nat → Nat
  | .div (.index _) (.rem (.elem (.index s) (.index c)) p), 0, lv => 2 * lv + 4 + (if 0 < szO sy s then 3 else 0) + cN sy s c + cQ sy p 0 lv
  | .div (.index _) (.add v e), 0, lv => 2 * lv + 3 + cE sy v + cE sy e
  | .div (.index _) (.sub v e), 0, lv => 2 * lv + 2 + cE sy v + cE sy e
  | .div (.index _) (.mul v e), 0, lv => 2 * lv + 2 + cE sy v + cE sy e
  | .div (.index _) (.elem (.index _) as), 0, lv => 2 * lv + 3 + cA sy as
  | .div (.index _) (.length ps), 0, lv => 2 * lv + 4 + cQ sy ps 1 (lv + 1)
  | .div (.index _) (.rem (.arg s) (.elem (.elem e1 e2) p)), 0, lv => 2 * lv + 8 + ncs sy s + cE sy e1 + cE sy e2 + cQ sy p 0 (lv + 1)
  | .div (.index _) (.sum (.elem (.index _) ps)), 0, lv => 2 * lv + 4 + cQ sy ps 1 (lv + 1)
  | .div (.index _) (.old (.elem (.index _) ps)), 0, lv => 2 * lv + 7 + cQ sy ps 1 (lv + 1)
  | .div (.index _) (.rem (.index s) (.elem (.elem (.index _) (.index _)) p)), 0, lv => 2 * lv + 10 + ncs sy s + cQ sy p 0 (lv + 1)
  | .div (.index _) (.rem .null gs), 0, lv => 2 * lv + 3 + cQ sy gs 2 lv
  | .div (.index _) (.div e p), 0, lv => 2 * lv + 6 + cE sy e + cQ sy p 0 (lv + 1)
  | .div (.index _) (.rem .result gs), 0, lv => 2 * lv + 4 + cQ sy gs 3 lv
  | .div (.index _) _, 0, lv => 2 * lv + 5
  | .elem p ps, 1, lv => cQ sy p 0 lv + cQ sy ps 1 lv
  | .elem (.elem e p) gs, 2, lv => 2 * lv + 3 + cE sy e + cQ sy p 0 (lv + 2) + cQ sy gs 2 lv
  | .elem (.div (.index _) (.elem e (.elem c (.elem v p)))) gs, 3, lv => 2 * lv + 3 + cGd sy e c v + cQ sy p 0 (lv + 2) + cQ sy gs 3 lv
  | _, _, _ => 0
