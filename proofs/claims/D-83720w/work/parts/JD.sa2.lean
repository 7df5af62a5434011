/-! (S): what instructions do, where addresses are good -/
/-- the core's memory ends at M, its process stands at W -/
def wM (s : Cr) (M : Nat) : Prop := s.1 5 = nI M ∧ M ≤ 4016
section
variable {s : Cr} {w : Wd} {M W : Nat}
/-- an address as a number -/
theorem ad_v {v : Int32} {a : Nat} (b : wM s M) (e : v.toInt = a) (h : a < M) : adM s v = some a := by
  obtain ⟨b1, b2⟩ := b
  have ev : v = nI a := Int32.toInt_inj.mp (by rw [e, nI_toInt (by omega)])
  unfold adM
  rw [ev, b1, if_pos ⟨in_n (by omega) (by omega), nI_lt h (by omega)⟩, nI_clamp (by omega)]
theorem ad_n {a : Nat} (b : wM s M) (h : a < M) : adM s (nI a) = some a := ad_v b (nI_toInt (by have := b.2; omega)) h
theorem i_add {x y : Int32} {a b : Int} (hx : x.toInt = a) (hy : y.toInt = b) (h1 : -2147483648 ≤ a + b) (h2 : a + b ≤ 2147483647) : (x + y).toInt = a + b := by
  rw [Int32.toInt_add, hx, hy, Int.bmod_eq_of_le (by omega) (by omega)]
theorem i_sub {x y : Int32} {a b : Int} (hx : x.toInt = a) (hy : y.toInt = b) (h1 : -2147483648 ≤ a - b) (h2 : a - b ≤ 2147483647) : (x - y).toInt = a - b := by
  rw [Int32.toInt_sub, hx, hy, Int.bmod_eq_of_le (by omega) (by omega)]
/-- a word at an offset from W -/
theorem ad_w {v : Int32} {off : Int} {a : Nat} (b : wM s M) (hW : s.1 12 = nI W) (hw : W ≤ 4016) (hv : v.toInt = off) (e : W + off = a) (h : a < M) : adM s (s.1 12 + v) = some a := by
  have := b.2
  refine ad_v b ?_ h
  rw [hW, i_add (nI_toInt (by omega)) hv (by omega) (by omega), e]
/-- a word below W -/
theorem ad_b {k : Nat} (b : wM s M) (hW : s.1 12 = nI W) (hk : k ≤ W) (hk2 : k < 100) (h : W ≤ M) (hk3 : 1 ≤ k ∨ W < M) : adM s (s.1 12 - nI k) = some (W - k) := by
  have := b.2
  rw [hW, nI_sub hk]
  exact ad_n b (by omega)
/-- a descriptor -/
theorem ds_in {n b : Nat} (hb : b ≤ 1) (hn : n < 4016) : mj_in (nI (2 * n + b)) 8032 := in_n (by omega) (by omega)
theorem ds_k {n b k : Nat} (hb : b ≤ 1) (hn : n < 4016) (hk : k ≤ n) : nI (2 * n + b) / 2 - nI k = nI (n - k) := by
  rw [show (2 : Int32) = nI 2 from rfl, nI_dv (by omega) (by omega), show (2 * n + b) / 2 = n by omega, nI_sub hk]
theorem ds_ad {n b k : Nat} (c : wM s M) (hb : b ≤ 1) (hn : n < 4016) (hk : k ≤ n) (h : n - k < M) : adM s (nI (2 * n + b) / 2 - nI k) = some (n - k) := by rw [ds_k hb hn hk]; exact ad_n c h
theorem rd_ok {n b : Nat} (hb : b ≤ 1) (hn : n < 4016) (hl : s.2.2.1.length + s.2.2.2.length < 1090) : cReady s (nI (2 * n + b)) = some (if b = 0 then sQ s (s.2.2.1 ++ [n]) s.2.2.2 else sQ s s.2.2.1 (s.2.2.2 ++ [n])) := by
  unfold cReady
  rw [if_pos ⟨ds_in hb hn, hl⟩, nI_clamp (by omega)]
  have e1 : (2 * n + b) / 2 = n := by omega
  have e2 : ((2 * n + b) % 2 = 0) ↔ b = 0 := by omega
  rw [e1]
  by_cases c : b = 0
  · rw [if_pos (e2.mpr c), if_pos c]
  · rw [if_neg (fun z => c (e2.mp z)), if_neg c]
theorem rs_ok (b : wM s M) (hW : s.1 12 = nI W) (h1 : 1 ≤ W) (h2 : W ≤ M) : cRest s = some (sR (sM s (W - 1) (s.1 11)) 14 0) := by
  have := ad_b (k := 1) b hW h1 (by omega) h2 (Or.inl (by omega))
  unfold cRest
  rw [show (1 : Int32) = nI 1 from rfl, this]
  rfl
theorem wt_ok {c : Nat} {v : Int32} (b : wM s M) (hW : s.1 12 = nI W) (h1 : 3 ≤ W) (h2 : W ≤ M) (hc : ¬ (W - 3 ≤ c ∧ c < W)) : cWait s c v = some (sR (sM (sM (sM (sM s c (cSelf s)) (W - 2) v) (W - 3) 0) (W - 1) (s.1 11)) 14 0) := by
  have a1 := ad_b (k := 1) b hW (by omega) (by omega) h2 (Or.inl (by omega))
  have a2 := ad_b (k := 2) b hW (by omega) (by omega) h2 (Or.inl (by omega))
  have a3 := ad_b (k := 3) b hW (by omega) (by omega) h2 (Or.inl (by omega))
  unfold cWait
  rw [show (1 : Int32) = nI 1 from rfl, show (2 : Int32) = nI 2 from rfl, show (3 : Int32) = nI 3 from rfl, a1, a2, a3]
  show (if c ≠ W - 1 ∧ c ≠ W - 2 ∧ c ≠ W - 3 then _ else none) = _
  rw [if_pos ⟨by omega, by omega, by omega⟩]
  exact rs_ok (s := sM (sM (sM s c (cSelf s)) (W - 2) v) (W - 3) 0) (M := M) b hW (by omega) h2
theorem sf_ok {pri : Nat} (hW : s.1 12 = nI W) (hp : s.1 15 = nI pri) : cSelf s = nI (2 * W + pri) := by
  unfold cSelf
  rw [hW, hp]
  show nI 2 * nI W + nI pri = _
  rw [nI_mul, nI_add]
/-- words are filled -/
theorem fl_ok {x v : Int32} {a : Nat} (b : wM s M) (hx : x = nI a) : ∀ n, a + n ≤ M → ∃ s', cFill s x v n = some s' ∧ s'.1 = s.1 ∧ s'.2.2 = s.2.2 ∧ ∀ y, s'.2.1 y = if a ≤ y ∧ y < a + n then v else s.2.1 y := by
  intro n
  induction n with
  | zero =>
    intro _
    exact ⟨s, rfl, rfl, rfl, fun y => by rw [if_neg (by omega)]⟩
  | succ n ih =>
    intro h
    obtain ⟨s', e1, e2, e3, e4⟩ := ih (by omega)
    have ad : adM s' (x + nI n) = some (a + n) := by rw [hx, nI_add]; exact ad_n (M := M) ⟨by rw [e2]; exact b.1, b.2⟩ (by omega)
    refine ⟨sM s' (a + n) v, ?_, e2, e3, fun y => ?_⟩
    · show (cFill s x v n).bind _ = _
      rw [e1]
      show (adM s' (x + nI n)).map _ = _
      rw [ad]
      rfl
    · show (if y = a + n then v else s'.2.1 y) = _
      rw [e4]
      by_cases c : y = a + n
      · rw [if_pos c, if_pos (by omega)]
      · rw [if_neg c]
        by_cases c2 : a ≤ y ∧ y < a + n
        · rw [if_pos c2, if_pos (by omega)]
        · rw [if_neg c2, if_neg (by omega)]
end
/-- few ones stand ready: they lie four words apart -/
theorem pg_4 : ∀ (L : List Nat) (N : Nat), (∀ x ∈ L, 3 ≤ x ∧ x < N) → L.Pairwise (fun x y => x + 4 ≤ y ∨ y + 4 ≤ x) → 4 * L.length ≤ N + 3 := by
  intro L N h p
  -- count words: each x owns x - 3 .. x
  have key : ∀ (L : List Nat), (∀ x ∈ L, 3 ≤ x ∧ x < N) → L.Pairwise (fun x y => x + 4 ≤ y ∨ y + 4 ≤ x) → ((List.range N).filter (fun y => L.any (fun x => decide (x - 3 ≤ y ∧ y ≤ x)))).length = 4 * L.length := by
    intro L
    induction L with
    | nil => intro _ _; simp
    | cons x L ih =>
      intro h p
      have hx := h x List.mem_cons_self
      have p' := List.pairwise_cons.mp p
      have i := ih (fun y hy => h y (List.mem_cons_of_mem _ hy)) p'.2
      have sp : ∀ (R : List Nat), (R.filter (fun y => (x :: L).any (fun x => decide (x - 3 ≤ y ∧ y ≤ x)))).length = (R.filter (fun y => decide (x - 3 ≤ y ∧ y ≤ x))).length + (R.filter (fun y => L.any (fun x => decide (x - 3 ≤ y ∧ y ≤ x)))).length := by
        intro R
        induction R with
        | nil => rfl
        | cons y R ihR =>
          rw [List.filter_cons, List.filter_cons, List.filter_cons]
          have e : (x :: L).any (fun x => decide (x - 3 ≤ y ∧ y ≤ x)) = (decide (x - 3 ≤ y ∧ y ≤ x) || L.any (fun x => decide (x - 3 ≤ y ∧ y ≤ x))) := rfl
          have dj : decide (x - 3 ≤ y ∧ y ≤ x) = true → L.any (fun x => decide (x - 3 ≤ y ∧ y ≤ x)) = false := by
            intro c
            have c := of_decide_eq_true c
            rw [List.any_eq_false]
            intro z hz c2
            have c2 := of_decide_eq_true c2
            have := p'.1 z hz
            have := h z (List.mem_cons_of_mem _ hz)
            omega
          rw [e]
          by_cases c : decide (x - 3 ≤ y ∧ y ≤ x) = true
          · rw [if_pos c, dj c, Bool.or_false, if_pos c, if_neg (by decide), List.length_cons, List.length_cons, ihR]; omega
          · rw [if_neg c, Bool.not_eq_true _ |>.mp c, Bool.false_or]
            by_cases c2 : L.any (fun x => decide (x - 3 ≤ y ∧ y ≤ x)) = true
            · rw [if_pos c2, if_pos c2, List.length_cons, List.length_cons, ihR]; omega
            · rw [if_neg c2, if_neg c2, ihR]
      rw [sp, i, List.length_cons]
      have four : ∀ N, x < N → ((List.range N).filter (fun y => decide (x - 3 ≤ y ∧ y ≤ x))).length = 4 := by
        intro N hN
        induction N with
        | zero => omega
        | succ N ihN =>
          rw [List.range_succ, List.filter_append, List.length_append]
          by_cases c : x < N
          · rw [ihN c]
            have : ([N].filter (fun y => decide (x - 3 ≤ y ∧ y ≤ x))) = [] := by
              rw [List.filter_cons, if_neg (by rw [decide_eq_true_iff]; omega)]; rfl
            rw [this]; rfl
          · have ex : x = N := by omega
            have low : ∀ K, K ≤ x → ((List.range K).filter (fun y => decide (x - 3 ≤ y ∧ y ≤ x))).length = K - (x - 3) := by
              intro K
              induction K with
              | zero => intro _; simp
              | succ K ihK =>
                intro hK
                rw [List.range_succ, List.filter_append, List.length_append, ihK (by omega), List.filter_cons]
                by_cases c2 : x - 3 ≤ K ∧ K ≤ x
                · rw [if_pos (decide_eq_true c2)]; show K - (x - 3) + 1 = _; omega
                · rw [if_neg (by rw [decide_eq_true_iff]; exact c2)]; show K - (x - 3) + 0 = _; omega
            rw [low N (by omega), List.filter_cons, if_pos (decide_eq_true (by omega))]
            show N - (x - 3) + 1 = 4
            omega
      rw [four N hx.2]
      omega
  have k := key L h p
  have := List.length_filter_le (fun y => L.any (fun x => decide (x - 3 ≤ y ∧ y ≤ x))) (List.range N)
  rw [k, List.length_range] at this
  omega
