/-! (S): all PROCs, the root -/
theorem tk_gD {α : Type} {l : List α} {d : α} {p K : Nat} (h : p < K) : (l.take K).getD p d = l.getD p d := by
  rw [List.getD_eq_getElem?_getD, List.getD_eq_getElem?_getD, List.getElem?_take_of_lt h]
section
variable {C : Cx} {M : Nat} {E : En} {pe : Nat → Nat} {sy : List Sym} {pz : List (Nat × Nat)} {pa : List (List Nat)} {bs : List Tm} {kp : Nat → Bool} {fl mk : Bool} {lk : List (Nat × Nat)} {T : Nat}
theorem pbF_at (dj : ∀ p k q, p < k → k < pa.length → q ∈ pa.getD p [] → q ∈ pa.getD k [] → False) {p q : Nat} (hq : q ∈ pa.getD p []) : ∀ K, p < K → K ≤ pa.length → pbF kp fl sy pa bs K q = orN (evP kp fl sy (pbF kp fl sy pa bs p) (pa.take p) (bs.getD p .null) 0 r0) q := by
  intro K
  induction K with
  | zero => intro h; omega
  | succ K ih =>
    intro h1 h2
    rw [pbF]
    dsimp only
    by_cases e : p = K
    · rw [← e, if_pos hq]
    · rw [if_neg (fun y => dj p K q (by omega) (by omega) hq y), ih (by omega) (by omega)]
theorem offB_at : ∀ K, offB kp fl mk sy pa bs lk K = [] → ∀ k, k < K → offP kp fl mk sy (pbF kp fl sy pa bs k) (pa.take k) lk none (bs.getD k .null) 0 r0 = [] := by
  intro K
  induction K with
  | zero => intro _ k hk; omega
  | succ K ih =>
    intro h k hk
    rw [offB] at h
    obtain ⟨h1, h2⟩ := off_app h
    by_cases e : k = K
    · rw [e]; exact h2
    · exact ih h1 k (by omega)
/-- no PROCs' names -/
def noP (sy : List Sym) (v : List Nat) : List Nat := v.filter fun s => srO sy s != 0
theorem noP_mo (v : List Nat) : moV sy v (noP sy v) := by
  intro s hs h0
  exact List.mem_filter.mpr ⟨hs, by simp [h0]⟩
theorem noP_in {v : List Nat} {s : Nat} (h : s ∈ noP sy v) : s ∈ v ∧ srO sy s ≠ 0 := by
  obtain ⟨h1, h2⟩ := List.mem_filter.mp h
  exact ⟨h1, by simpa using h2⟩
theorem glo_1 {np nl s : Nat} (h : glo np nl sy s) (h0 : srO sy s ≠ 0) (hl : nl ≤ 12) : srO sy s = 1 ∧ szO sy s < 14 := by
  rcases h with rfl | rfl | ⟨-, ⟨h, -⟩ | ⟨h1, h2⟩⟩
  · exact ⟨rfl, by show 12 < 14; decide⟩
  · exact ⟨rfl, by show 13 < 14; decide⟩
  · exact (h0 h).elim
  · exact ⟨h1, by omega⟩
theorem prO_all (o : oneW E) (kc : ∀ s, sChn (srO sy s) = true → kp s = true) (pm : plm C T) (hbl : bs.length = pa.length) (dj : ∀ p k q, p < k → k < pa.length → q ∈ pa.getD p [] → q ∈ pa.getD k [] → False) (hb : ∀ k B, bs[k]? = some B → ∃ r : Nat × Nat, bdy sy pa 0 k B r ∧ r.2 ≤ 200) (hz : pzT sy pa bs pz) (hft : ∀ k, k < bs.length → (pz.getD k (0, 0)).1 + (pz.getD k (0, 0)).2 + 3 ≤ 4000)
    (ho : offB kp fl mk sy pa bs lk bs.length = []) (hc : ∀ k B, bs[k]? = some B → cod C pe (pe k) (kBd sy pz pa k B (pe k)) ∧ pe k + 3 + nQ sy (pa.take k) B 0 ≤ T) : ∀ K, K ≤ bs.length → prO C M E pe sy pz (pa.take K) (pbF kp fl sy pa bs K) := by
  intro K
  induction K using Nat.strongRecOn with
  | ind K ih =>
    intro hK p hp
    rw [List.length_take] at hp
    have hpb : p < bs.length := by omega
    obtain ⟨B, hB⟩ : ∃ B, bs[p]? = some B := ⟨_, List.getElem?_eq_getElem hpb⟩
    have gB : bs.getD p .null = B := by rw [List.getD_eq_getElem?_getD, hB]; rfl
    obtain ⟨r, ⟨f, n, v, l, b1, b2, b3, b4, b5, b6, b7⟩, hr⟩ := hb p B hB
    have eqs : pa.getD p [] = List.range' f n := by rw [List.getD_eq_getElem?_getD, b1]; rfl
    have ez := hz p B hB
    have hf := hft p hpb
    rw [tk_gD (by omega)]
    have hlen : (pa.getD p []).length = n := by rw [eqs, List.length_range']
    have pq : ∀ q ∈ pa.getD p [], prq sy q := fun q hq => by
      rw [eqs, List.mem_range'_1] at hq
      have := b4 (q - f) (by omega)
      rw [show f + (q - f) = q by omega] at this
      exact this
    refine ⟨fun lo lo1 lo2 => ?_, ?_, ?_, ?_, fun q hq => ?_⟩
    · have op := offB_at _ ho p hpb
      rw [gB] at op
      refine ty_pr (v := noP sy v) (f := f) (n := n) (l := l) (hi := r.2) (k := p) (B := B) o kc pm (ih p (by omega) (by omega)) (wfQ_mo _ _ _ _ _ _ _ (moV.see (noP_mo v)) b7) hr (fun s hs => ?_) b6 b2 b4 (fun s hs => ?_) (fun s hs s' hs' e => ?_) eqs ?_ op (fun i hi => ?_) (hc p B hB).1 (hc p B hB).2 (by omega) lo1 lo2
      · have := (b5 s (noP_in hs).1).2; omega
      · obtain ⟨h1, h2⟩ := noP_in hs
        exact glo_1 (b5 s h1).1 h2 (by omega)
      · obtain ⟨h1, h2⟩ := noP_in hs
        obtain ⟨h1', h2'⟩ := noP_in hs'
        rcases (b5 s h1).1 with rfl | rfl | ⟨-, ⟨h, -⟩ | ⟨-, h⟩⟩
        · rcases (b5 s' h1').1 with rfl | rfl | ⟨-, ⟨h, -⟩ | ⟨-, h⟩⟩
          · rfl
          · exact absurd (show (12 : Nat) = 13 from e) (by decide)
          · exact (h2' h).elim
          · omega
        · rcases (b5 s' h1').1 with rfl | rfl | ⟨-, ⟨h, -⟩ | ⟨-, h⟩⟩
          · exact absurd (show (13 : Nat) = 12 from e) (by decide)
          · rfl
          · exact (h2' h).elim
          · omega
        · exact (h2 h).elim
        · omega
      · rw [ez, hlen]
      · rw [pbF_at dj (show f + i ∈ pa.getD p [] by rw [eqs, List.mem_range'_1]; omega) K (by omega) (by omega), gB]
    · rw [ez]; show _ ≤ 1 + (pa.getD p []).length + _; omega
    · rw [hlen]; omega
    · omega
    · have := prq_k (pq q hq)
      exact ⟨fun y => (this.2 y).1, this.1⟩
/-- where a core begins -/
def zRt (d e : Nat) (wr : Nat → Nat) : Sg := ((fun _ => k0), (k0, k0, k0), (d + 3, 1 + e), (0, 0, 0), (0, [], 0, 0, 0), (0, []), wr)
def zRo (d e : Nat) (wr : Nat → Nat) : Sg := ((fun o => if 1 ≤ o ∧ o < ((1 + e : Nat) : Int) then (1, 0, 0) else k0), (k0, k0, k0), (d + 3, 1 + e), (0, 0, 0), (0, [], 0, 0, 0), (0, []), wr)
theorem ty_rt {nl l lo hi a pp : Nat} {R : Tm} {v : List Nat} {wr : Nat → Nat} {pb : Nat → Nat} (o : oneW E) (kc : ∀ s, sChn (srO sy s) = true → kp s = true) (pm : plm C T) (pr : prO C M E pe sy pz pa pb) (wf : wfQ sy pa R 0 l v lo hi) (h2 : hi ≤ 200) (hl : l ≤ 17) (nl12 : nl ≤ 12) (gl : ∀ s ∈ v, glo pa.length nl sy s ∧ (s < lo ∨ 200 ≤ s)) (wu : ∀ s ∈ v, ∀ s' ∈ v, srO sy s = 1 → srO sy s' = 1 → szO sy s = szO sy s' → s = s')
    (hw : ∀ s ∈ v, srO sy s = 1 → ∀ n, wok sy lk (some pp) s n = true → (n &&& 4 ≠ 0 → E.1 (szO sy s)) ∧ (n &&& 8 ≠ 0 → E.2 (szO sy s))) (hwr : ∀ c, (E.1 c → wr c &&& 4 ≠ 0) ∧ (E.2 c → wr c &&& 8 ≠ 0)) (hft : 1 + (mz sy pz R 0).1 + (mz sy pz R 0).2 + 3 ≤ 4000) (ho : offP kp fl mk sy pb pa lk (some pp) R 0 r0 = []) (hc : cod C pe a (kP sy pz pa R 0 (fun _ => (0, 0)) (fun _ => 0) 0 1 (fun _ => 0) a 0 0 ++ [iO 31])) (hT : a + nQ sy pa R 0 ≤ T) :
    gfX C M E (fun _ _ => False) a (zRt (mz sy pz R 0).2 (mz sy pz R 0).1 wr) := by
  have hY : clo (fun (_ : Nat) (_ : Sg) => False) := fun _ _ _ h _ => h
  rw [cod_app, kP_len] at hc
  obtain ⟨c1, c2, -⟩ := hc
  have gv : ∀ s ∈ noP sy v, srO sy s = 1 ∧ szO sy s < 14 := fun s hs => by
    obtain ⟨h1, h2⟩ := noP_in hs
    exact glo_1 (gl s h1).1 h2 nl12
  have wf' := wfQ_mo _ _ _ _ _ _ _ (noP_mo v) wf
  have hyp : hypQ sy pz pa pb kp fl mk lk (some pp) T R 0 l (noP sy v) lo hi (fun _ => (0, 0)) (fun _ => 0) 0 1 r0 a (zRo (mz sy pz R 0).2 (mz sy pz R 0).1 wr) := by
    refine ⟨wf', fun t ht => (gl t (noP_in ht).1).2, h2, ⟨rfl, fun t ht n1 => (n1 (gv t ht).1).elim⟩, by omega, ⟨⟨rfl, rfl, rfl⟩, rfl, rfl, Nat.le_refl _, ?_, fun o o1 o2 => ?_, fun s hs => ?_, fun s hs => ?_, fun s hs n1 => (n1 (gv s hs).1).elim, fun s hs n1 => (n1 (gv s hs).1).elim, ⟨fun s hs s' hs' hne n1 => (n1 (gv s hs).1).elim, fun s hs s' hs' e1 e1' ez => wu s (noP_in hs).1 s' (noP_in hs').1 e1 e1' ez⟩, fun o ho => ?_, fun o => ?_⟩, fun e he hv hs m hm hb => ?_, Nat.le_refl _, Nat.le_refl _, ?_, ho, hT⟩
    · show 1 + (mz sy pz R 0).1 < 5000
      omega
    · show (if 1 ≤ o ∧ o < ((1 + (mz sy pz R 0).1 : Nat) : Int) then ((1, 0, 0) : Kd) else k0) = _
      have o2 : o < ((1 + (mz sy pz R 0).1 : Nat) : Int) := o2
      exact if_pos ⟨o1, o2⟩
    · obtain ⟨k1, ks⟩ := gv s hs
      exact ⟨fun y => by omega, fun y => by omega, fun y => by omega, fun y => by omega, fun _ => by omega, fun y => (y k1).elim⟩
    · obtain ⟨k1, ks⟩ := gv s hs
      exact ⟨fun y => by omega, fun y => by omega, fun y => by omega, fun _ => ks⟩
    · have ho : ((if 1 ≤ o ∧ o < ((1 + (mz sy pz R 0).1 : Nat) : Int) then ((1, 0, 0) : Kd) else k0)).1 ≠ 0 := ho
      split at ho
      · omega
      · exact absurd rfl ho
    · show ((if 1 ≤ o ∧ o < ((1 + (mz sy pz R 0).1 : Nat) : Int) then ((1, 0, 0) : Kd) else k0)).1 ≠ 15 ∧ ((if 1 ≤ o ∧ o < ((1 + (mz sy pz R 0).1 : Nat) : Int) then ((1, 0, 0) : Kd) else k0)).1 ≠ 16
      split <;> decide
    · obtain ⟨k1, ks⟩ := gv _ hv
      have e0 : e.2 ≠ 0 := fun z => by rw [z, Nat.zero_and] at hb; exact hb rfl
      have ok := ev_w R 0 l _ _ _ r0 wf' ho e he k1 e0
      obtain ⟨w4, w8⟩ := hw _ (noP_in hv).1 k1 _ ok
      refine ⟨fun y => by omega, fun y => by omega, fun _ => ⟨ks, ?_⟩, fun y => by omega⟩
      show wr (szO sy e.1.1) &&& m ≠ 0
      rcases hm with rfl | rfl
      · exact (hwr _).1 (w4 hb)
      · exact (hwr _).2 (w8 hb)
    · show (mz sy pz R 0).2 + 3 ≤ 5000
      omega
  have gE : gfX C M E (fun _ _ => False) (a + nQ sy pa R 0) (zRo (mz sy pz R 0).2 (mz sy pz R 0).1 wr) := gf_ru (i_stop (Or.inr (Or.inr rfl)) c2 rfl rfl)
  have gB := ((tq_all o kc pm pr R 0).1 rfl) l _ _ _ _ _ _ _ _ _ _ hyp (fun _ _ => False) hY c1 gE
  refine gf_cv hY gB ⟨rfl, rfl, rfl, rfl, rfl, rfl, rfl, rfl, fun o => ?_, fun o ho => ?_⟩
  · show (if 1 ≤ o ∧ o < ((1 + (mz sy pz R 0).1 : Nat) : Int) then ((1, 0, 0) : Kd) else k0) = k0 ∨ ((if 1 ≤ o ∧ o < ((1 + (mz sy pz R 0).1 : Nat) : Int) then ((1, 0, 0) : Kd) else k0)).1 = 0 ∨ (((if 1 ≤ o ∧ o < ((1 + (mz sy pz R 0).1 : Nat) : Int) then ((1, 0, 0) : Kd) else k0)).1 = 1 ∧ 0 < o ∧ o < ((1 + (mz sy pz R 0).1 : Nat) : Int))
    by_cases c : 1 ≤ o ∧ o < ((1 + (mz sy pz R 0).1 : Nat) : Int)
    · rw [if_pos c]; exact Or.inr (Or.inr ⟨rfl, by omega, c.2⟩)
    · rw [if_neg c]; exact Or.inl rfl
  · exfalso
    have ho : ((if 1 ≤ o ∧ o < ((1 + (mz sy pz R 0).1 : Nat) : Int) then ((1, 0, 0) : Kd) else k0)).1 = 15 ∨ ((if 1 ≤ o ∧ o < ((1 + (mz sy pz R 0).1 : Nat) : Int) then ((1, 0, 0) : Kd) else k0)).1 = 16 := ho
    split at ho <;> exact absurd ho (by decide)
end
