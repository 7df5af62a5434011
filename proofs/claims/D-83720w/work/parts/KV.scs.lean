/-! (S): THE SYSTEM OF A PROGRAM -/
/-- a processor's process -/
def rot (sy : List Sym) (pa : List (List Nat)) (nl : Nat) (R : Tm) : Prop := ∃ v l lo hi, (∀ s ∈ v, glo pa.length nl sy s ∧ (s < lo ∨ 200 ≤ s)) ∧ (∀ s ∈ v, ∀ s' ∈ v, srO sy s = 1 → srO sy s' = 1 → szO sy s = szO sy s' → s = s') ∧ hi ≤ 200 ∧ l ≤ 17 ∧ wfQ sy pa R 0 l v lo hi
section
variable (sy : List Sym) (pz : List (Nat × Nat)) (pa : List (List Nat)) (bs : List Tm) (lk : List (Nat × Nat)) (rt : List (Nat × Tm)) (Ls : Nat → Nat → Nat)
def rtO (p : Nat) : Tm := match rt.find? (fun x => x.1 == p) with
  | some x => x.2
  | none => .null
noncomputable def gOf : PgS := ((fun p => (rt.find? (fun x => x.1 == p)).isSome), (fun l => (lk.getD l (0, 0)).1), (fun l => (lk.getD l (0, 0)).2), lk.length, fun p => cdF (kX sy pz pa bs (rtO rt p)) (Ls p))
def bOf : Bg := fun p => (plS (Ls p) (kAl sy pz pa bs (rtO rt p)).length, 1 + (mz sy pz (rtO rt p) 0).1 + (mz sy pz (rtO rt p) 0).2 + 3, plS (Ls p) (kSt sy pz pa bs bs.length), 16 + (mz sy pz (rtO rt p) 0).2 + 3)
def xOf : Xs := fun p => (cxP (kX sy pz pa bs (rtO rt p)) (Ls p), 16 + (1 + (mz sy pz (rtO rt p) 0).1 + (mz sy pz (rtO rt p) 0).2 + 3))
/-- what is known of a program -/
def sHy : Prop := bs.length = pa.length ∧ (∀ p k q, p < k → k < pa.length → q ∈ pa.getD p [] → q ∈ pa.getD k [] → False) ∧ (∀ k B, bs[k]? = some B → ∃ r : Nat × Nat, bdy sy pa 0 k B r ∧ r.2 ≤ 200) ∧ pzT sy pa bs pz ∧ (∀ k, k < bs.length → (pz.getD k (0, 0)).1 + (pz.getD k (0, 0)).2 + 3 ≤ 4000) ∧
  (lk.length ≤ 12 ∧ ∀ l, l < lk.length → (lk.getD l (0, 0)).1 ≠ (lk.getD l (0, 0)).2 ∧ (lk.getD l (0, 0)).1 < 6 ∧ (lk.getD l (0, 0)).2 < 6) ∧ ∀ p x, rt.find? (fun x => x.1 == p) = some x → rot sy pa lk.length x.2 ∧ 1 + (mz sy pz x.2 0).1 + (mz sy pz x.2 0).2 + 3 ≤ 4000
/-- and of its code's lengths -/
def lHy : Prop := ∀ p x, rt.find? (fun x => x.1 == p) = some x → stl (kX sy pz pa bs x.2) (in0 (kX sy pz pa bs x.2)) (Ls p) ∧ plS (Ls p) (kAl sy pz pa bs x.2).length ≤ 6000 ∧ wiN (kX sy pz pa bs x.2)
end
section
variable {sy : List Sym} {pz : List (Nat × Nat)} {pa : List (List Nat)} {bs : List Tm} {lk : List (Nat × Nat)} {rt : List (Nat × Tm)} {Ls : Nat → Nat → Nat}
theorem rt_of {p : Nat} (h : (rt.find? (fun x => x.1 == p)).isSome = true) : ∃ x, rt.find? (fun x => x.1 == p) = some x ∧ rtO rt p = x.2 := by
  obtain ⟨x, hx⟩ := Option.isSome_iff_exists.mp h
  exact ⟨x, hx, by unfold rtO; rw [hx]⟩
theorem wok_E {nl np s n p : Nat} (g : glo np nl sy s) (hs : srO sy s = 1) (hl : nl = lk.length) (h : wok sy lk (some p) s n = true) : (n &&& 4 ≠ 0 → (sEn (gOf sy pz pa bs lk rt Ls) p).1 (szO sy s)) ∧ (n &&& 8 ≠ 0 → (sEn (gOf sy pz pa bs lk rt Ls) p).2 (szO sy s)) := by
  unfold wok at h
  dsimp only at h
  by_cases e0 : s = 200
  · rw [if_pos e0, Bool.and_eq_true, beq_iff_eq, beq_iff_eq] at h
    refine ⟨fun _ => Or.inr ⟨by rw [e0]; rfl, h.1⟩, fun z => ?_⟩
    rw [h.2] at z
    exact absurd rfl z
  · rw [if_neg e0] at h
    by_cases e1 : s = 201
    · rw [if_pos e1, Bool.and_eq_true, beq_iff_eq, beq_iff_eq] at h
      refine ⟨fun z => ?_, fun _ => Or.inr ⟨by rw [e1]; rfl, h.1⟩⟩
      rw [h.2] at z
      exact absurd rfl z
    · rw [if_neg e1, Bool.and_eq_true, Bool.or_eq_true, Bool.or_eq_true, beq_iff_eq, beq_iff_eq, beq_iff_eq, beq_iff_eq] at h
      have hz : szO sy s < lk.length := by
        rcases g with y | y | ⟨-, ⟨y, -⟩ | ⟨-, y⟩⟩
        · exact (e0 y).elim
        · exact (e1 y).elim
        · omega
        · omega
      exact ⟨fun z => Or.inl ⟨hz, h.1.resolve_left z⟩, fun z => Or.inl ⟨hz, h.2.resolve_left z⟩⟩
theorem kAl_len {R : Tm} : (kAl sy pz pa bs R).length = kSt sy pz pa bs bs.length + nQ sy pa R 0 + 1 := by
  rw [kAl, List.length_append, List.length_append, kP_len]
  show (kBs sy pz pa bs bs.length).length + _ = (kBs sy pz pa bs bs.length).length + _ + _
  show _ + (_ + 1) = _
  omega
/-- (S): the beginning is in order, the code is code -/
theorem s_all {kp : Nat → Bool} {fl mk : Bool} (kc : ∀ s, sChn (srO sy s) = true → kp s = true) (H : sHy sy pz pa bs lk rt) (HL : lHy sy pz pa bs rt Ls) (ho : offB kp fl mk sy pa bs lk bs.length = []) (hr : ∀ p x, p < 6 → rt.find? (fun x => x.1 == p) = some x → offP kp fl mk sy (pbF kp fl sy pa bs bs.length) pa lk (some p) x.2 0 r0 = []) :
    okG (gOf sy pz pa bs lk rt Ls) ∧ (∀ p, p < 6 → (gOf sy pz pa bs lk rt Ls).1 p = true → okC (xOf sy pz pa bs rt Ls p).1 ((gOf sy pz pa bs lk rt Ls).2.2.2.2 p)) ∧ ∀ S, SI (xOf sy pz pa bs rt Ls) (gOf sy pz pa bs lk rt Ls) 0 (sBeg (gOf sy pz pa bs lk rt Ls) (bOf sy pz pa bs rt Ls) S) := by
  obtain ⟨h1, h2, h3, h4, h5, ⟨h6, h7⟩, h8⟩ := H
  have oG : okG (gOf sy pz pa bs lk rt Ls) := ⟨h6, fun l hl => h7 l hl⟩
  refine ⟨oG, fun p hp hG => ?_, fun S => si_beg (fun p hp hG => ?_)⟩
  · obtain ⟨x, hx, ex⟩ := rt_of hG
    obtain ⟨l1, l2, l3⟩ := HL p x hx
    show okC (cxP (kX sy pz pa bs (rtO rt p)) (Ls p)) (cdF (kX sy pz pa bs (rtO rt p)) (Ls p))
    rw [ex]
    exact okC_X l3 l1 (by rw [kX_len]; exact l2) kX_fn
  · obtain ⟨x, hx, ex⟩ := rt_of hG
    obtain ⟨l1, l2, l3⟩ := HL p x hx
    obtain ⟨⟨v, l, lo, hi, r1, r2, r3, r4, r5⟩, r6⟩ := h8 p x hx
    refine ⟨(mz sy pz x.2 0).2, (mz sy pz x.2 0).1, kSt sy pz pa bs bs.length, ?_, ?_, ?_, rfl, rfl, fun wr hw => ?_⟩
    · show 1 + (mz sy pz (rtO rt p) 0).1 + (mz sy pz (rtO rt p) 0).2 + 3 = _
      rw [ex]
    · show 1 + (mz sy pz (rtO rt p) 0).1 + (mz sy pz (rtO rt p) 0).2 + 3 ≤ _
      rw [ex]; exact r6
    · show 16 + (mz sy pz (rtO rt p) 0).2 + 3 = _
      rw [ex]
    · show gfX (cxP (kX sy pz pa bs (rtO rt p)) (Ls p)) (16 + (1 + (mz sy pz (rtO rt p) 0).1 + (mz sy pz (rtO rt p) 0).2 + 3)) _ _ _ _
      rw [ex]
      have l2' : plS (Ls p) (kX sy pz pa bs x.2).length ≤ 6000 := by rw [kX_len]; exact l2
      have pm := plm_X (X := kX sy pz pa bs x.2) l2'
      have cA : cod (cxP (kX sy pz pa bs x.2) (Ls p)) (kSt sy pz pa bs) 0 (kAl sy pz pa bs x.2) := kX_cod
      have lA := kAl_len (sy := sy) (pz := pz) (pa := pa) (bs := bs) (R := x.2)
      have cA' := cA
      rw [kAl, cod_app, Nat.zero_add] at cA'
      obtain ⟨c1, c2⟩ := cA'
      have oE := sE_one oG p
      have cB := kBs_cod bs.length c1
      have pr := prO_all (M := 16 + (1 + (mz sy pz x.2 0).1 + (mz sy pz x.2 0).2 + 3)) oE kc pm h1 h2 h3 h4 h5 ho (fun k B hB => by
        have hk : k < bs.length := by
          rcases Nat.lt_or_ge k bs.length with y | y
          · exact y
          · rw [List.getElem?_eq_none y] at hB; exact nomatch hB
        have gB : bs.getD k .null = B := by rw [List.getD_eq_getElem?_getD, hB]; rfl
        obtain ⟨b1, b2⟩ := cB k hk
        rw [gB] at b1 b2
        refine ⟨b1, Nat.le_trans b2 ?_⟩
        rw [kX_len, lA]
        show (kBs sy pz pa bs bs.length).length ≤ (kBs sy pz pa bs bs.length).length + _ + _
        omega) bs.length (Nat.le_refl _)
      rw [h1, List.take_length, ← h1] at pr
      refine ty_rt oE kc pm pr r5 r3 r4 h6 r1 r2 (fun s hs k1 n hn => wok_E (r1 s hs).1 k1 rfl hn) (fun c => ⟨(hw c).1.mpr, (hw c).2.mpr⟩) r6 (hr p x hp hx) c2 ?_
      rw [kX_len, lA]
      omega
/-- bytes and bounds of the program -/
theorem b_all (H : sHy sy pz pa bs lk rt) (HL : lHy sy pz pa bs rt Ls) : (∀ p, p < 6 → (gOf sy pz pa bs lk rt Ls).1 p = true → (bOf sy pz pa bs rt Ls p).1 ≤ 6000 ∧ (bOf sy pz pa bs rt Ls p).2.1 ≤ 4000 ∧ (bOf sy pz pa bs rt Ls p).2.2.1 < 6000 ∧ 1 ≤ (bOf sy pz pa bs rt Ls p).2.2.2 ∧ (bOf sy pz pa bs rt Ls p).2.2.2 ≤ 16 + (bOf sy pz pa bs rt Ls p).2.1) ∧ (∀ p, p < 6 → (gOf sy pz pa bs lk rt Ls).1 p = true → ∀ x, x < (bOf sy pz pa bs rt Ls p).1 → (gOf sy pz pa bs lk rt Ls).2.2.2.2 p x < 256) ∧
    (∀ p, p < 6 → (gOf sy pz pa bs lk rt Ls).1 p = true → ¬ (gOf sy pz pa bs lk rt Ls).2.2.2.2 p ((bOf sy pz pa bs rt Ls p).1 - 1) / 16 = 2 ∧ ¬ (gOf sy pz pa bs lk rt Ls).2.2.2.2 p ((bOf sy pz pa bs rt Ls p).1 - 1) / 16 = 6) := by
  obtain ⟨h1, h2, h3, h4, h5, ⟨h6, h7⟩, h8⟩ := H
  refine ⟨fun p hp hG => ?_, fun p hp hG y hy => ?_, fun p hp hG => ?_⟩
  · obtain ⟨x, hx, ex⟩ := rt_of hG
    obtain ⟨l1, l2, l3⟩ := HL p x hx
    obtain ⟨-, r6⟩ := h8 p x hx
    obtain ⟨s1, s2⟩ := stl_ex l3 l1
    unfold bOf
    dsimp only
    rw [ex]
    refine ⟨l2, r6, ?_, by omega, by omega⟩
    have lA := kAl_len (sy := sy) (pz := pz) (pa := pa) (bs := bs) (R := x.2)
    have := plS_m (L := Ls p) (b := kSt sy pz pa bs bs.length + 1) (kAl sy pz pa bs x.2).length (by omega)
    rw [plS] at this
    have := (s1 (kSt sy pz pa bs bs.length)).1
    omega
  · obtain ⟨x, hx, ex⟩ := rt_of hG
    obtain ⟨l1, l2, l3⟩ := HL p x hx
    obtain ⟨s1, s2⟩ := stl_ex l3 l1
    have hy : y < plS (Ls p) (kAl sy pz pa bs (rtO rt p)).length := hy
    show cdF (kX sy pz pa bs (rtO rt p)) (Ls p) y < 256
    rw [ex] at hy ⊢
    rw [← kX_len] at hy
    exact cdF_lt (fun z hz => (kX_fn z hz).1) (byt_of (fun i => (s1 i).1) _ (Nat.le_refl _) hy)
  · obtain ⟨x, hx, ex⟩ := rt_of hG
    obtain ⟨l1, l2, l3⟩ := HL p x hx
    obtain ⟨s1, s2⟩ := stl_ex l3 l1
    show ¬ cdF (kX sy pz pa bs (rtO rt p)) (Ls p) (plS (Ls p) (kAl sy pz pa bs (rtO rt p)).length - 1) / 16 = 2 ∧ ¬ cdF (kX sy pz pa bs (rtO rt p)) (Ls p) (plS (Ls p) (kAl sy pz pa bs (rtO rt p)).length - 1) / 16 = 6
    rw [ex, ← kX_len]
    have lA := kAl_len (sy := sy) (pz := pz) (pa := pa) (bs := bs) (R := x.2)
    rw [← kX_len] at lA
    obtain ⟨n, hn⟩ : ∃ n, (kX sy pz pa bs x.2).length = n + 1 := ⟨_, lA⟩
    have hy : (kX sy pz pa bs x.2)[n]? = some (kX sy pz pa bs x.2)[n] := List.getElem?_eq_getElem (by omega)
    have q := (s1 n).1
    rw [hn, plS, show plS (Ls p) n + Ls p n - 1 = plS (Ls p) n + (Ls p n - 1) by omega, cdF_at hy (by omega), show Ls p n - 1 - (Ls p n - 1) = 0 by omega]
    obtain ⟨f1, f2, f3⟩ := kX_fn _ (List.mem_of_getElem? hy)
    have e : ∀ v : Int32, (v &&& 15).toNatClampNeg < 16 := fun v => by
      have e : (v &&& 15).toBitVec.toNat ≤ 15 := by
        show (v.toBitVec &&& (15 : Int32).toBitVec).toNat ≤ 15
        rw [BitVec.toNat_and]
        exact Nat.and_le_right
      have e2 : v &&& 15 = nI (v &&& 15).toBitVec.toNat := by
        apply Int32.toBitVec_inj.mp
        show _ = BitVec.ofNat 32 _
        rw [BitVec.ofNat_toNat, BitVec.setWidth_eq]
      rw [e2, nI_clamp (by omega)]
      omega
    unfold bN
    rw [if_pos rfl]
    have := e (vlS (Ls p) (kX sy pz pa bs x.2)[n])
    constructor
    · intro z; apply f2; omega
    · intro z; apply f3; omega
end
