/-! (S): a call is typed well -/
section
variable {C : Cx} {M : Nat} {E : En} {Y : Nat → Sg → Prop} {sy : List Sym} {vis : List Nat} {wd r : Nat → Int32} {pe : Nat → Nat} {pb : Nat → Nat}
theorem wfA_i : ∀ (qs : List Nat) (as : Tm) (i q : Nat), wfA sy vis qs as → qs[i]? = some q → ((srO sy q = 3 ∧ wfX sy vis (tmG as i)) ∨ (srO sy q = 6 ∧ ∃ s, tmG as i = .arg s ∧ s ∈ vis ∧ sArr (srO sy s) = true ∧ szO sy s = szO sy q) ∨ (srO sy q = 4 ∧ wfV sy vis (tmG as i)) ∨ (srO sy q ≠ 3 ∧ srO sy q ≠ 6 ∧ srO sy q ≠ 4 ∧ wfC sy vis (tmG as i))) := by
  intro qs
  induction qs with
  | nil => intro as i q _ h; exact nomatch h
  | cons q0 qs ih =>
    intro as i q wf hi
    obtain ⟨x, as', rfl, wx, wr⟩ := wfA_c wf
    cases i with
    | zero =>
      have : q0 = q := Option.some.inj hi
      subst this
      exact wx
    | succ i => exact ih as' i q wr hi
theorem ty_call {qs : List Nat} {as : Tm} {p a f n sz : Nat} {z : Sg} (hY : clo Y) (qz : qt z) (ps : pOs sy vis wd) (ap : apS sy vis wd) (ec : eC sy vis wd (zG z)) (ct : cTg sy vis wd (zG z)) (hG : ∀ o, (zG z o).1 ≠ 0 → 0 < o) (tg : ∀ o, (zG z o).1 ≠ 15 ∧ (zG z o).1 ≠ 16) (f1 : 1 ≤ f) (fb : f + n < 5000) (dt : ∀ i : Nat, f ≤ i → i < f + n → (zG z i).1 = 1) (wf : wfA sy vis qs as) (mx : mxA as ≤ n) (hsz : sz < 10000) (hq : qs.length + 1 ≤ sz) (hq5 : qs.length < 50) (hlo : 7 + sz ≤ (zI z).1) (hhi : 1 ≤ (zI z).2)
    (s6 : ∀ q ∈ qs, srO sy q = 6 → 1 ≤ szO sy q)
    (rg : ∀ i q, qs[i]? = some q → srO sy q ≠ 3 → srO sy q ≠ 6 → srO sy q ≠ 4 → ∀ m, m = 4 ∨ m = 8 → pb q &&& m ≠ 0 → rgt sy wd (zG z) (zW z) (kyT sy r (tmG as i)) m)
    (nm : ∀ i j q q', i < j → qs[i]? = some q → qs[j]? = some q' → (srO sy q ≠ 3 ∧ srO sy q ≠ 6 ∧ srO sy q ≠ 4) → (srO sy q' ≠ 3 ∧ srO sy q' ≠ 6 ∧ srO sy q' ≠ 4) → mtK (kyT sy r (tmG as i)) (kyT sy r (tmG as j)) = false)
    (hc : cod C pe a (kC sy wd r sz 0 qs as f a ++ [iC p])) (hp : gfX C M E Y (pe p) (zEn sy pb sz qs ((zI z).1 - 4))) (h : gfX C M E Y (a + (nCa sy qs as + 1)) z) : gfX C M E Y a z := by
  rw [cod_app, kC_len] at hc
  obtain ⟨c1, c2, -⟩ := hc
  have start : gfX C M E Y a (zSG z (zG z)) := by
    refine ty_args (f := f) (n := n) (G := zG z) qz.2.1 qz.2.2 hsz hhi hlo f1 fb ps ec ct hG dt tg 0 qs as a (zG z) wf mx (by omega) (by omega) (fun _ _ => rfl) (fun o o1 o2 => ?_) (fun o ho => by have := tg o; omega) (fun o ho => ?_) c1 fun G' k1 k2 k3 k4 => gf_ru ?_
    · exact Classical.byContradiction fun y => by have := hG o y; omega
    · have : (zG z o).1 = 0 := Classical.byContradiction fun y => by have := hG o y; omega
      omega
    -- which argument a word is
    have idx : ∀ o, (zG (zEn sy pb sz qs ((zI z).1 - 4)) o).1 ≠ 0 → ∃ i q, qs[i]? = some q ∧ o - 4 = aOf sz i ∧ o < -3 ∧ o + 3 + sz = (i : Int) + 1 ∧ zG (zEn sy pb sz qs ((zI z).1 - 4)) o = pKd sy pb q := by
      intro o ho
      have e : zG (zEn sy pb sz qs ((zI z).1 - 4)) o = if 1 ≤ o + 3 + sz ∧ o + 3 + sz ≤ qs.length then pKd sy pb (qs.getD (o + 2 + sz).toNat 0) else k0 := rfl
      rw [e] at ho
      by_cases c : 1 ≤ o + 3 + sz ∧ o + 3 + sz ≤ qs.length
      · have hl : (o + 2 + sz).toNat < qs.length := by omega
        refine ⟨(o + 2 + sz).toNat, qs[(o + 2 + sz).toNat], List.getElem?_eq_getElem hl, by unfold aOf; omega, by omega, by omega, ?_⟩
        rw [e, if_pos c, List.getD_eq_getElem?_getD, List.getElem?_eq_getElem hl]
        rfl
      · rw [if_neg c] at ho
        exact (ho rfl).elim
    have ar := fun i q hi => aRs_i (r := r) qs 0 as i q wf k4 hi
    have chan : ∀ q, btS (pKd sy pb q) ≠ 0 → srO sy q ≠ 3 ∧ srO sy q ≠ 6 ∧ srO sy q ≠ 4 := by
      intro q hb
      unfold pKd at hb
      refine ⟨fun y => ?_, fun y => ?_, fun y => ?_⟩
      · rw [if_pos y] at hb; exact hb rfl
      · rw [if_neg (by omega), if_neg (by omega), if_pos y] at hb; exact hb rfl
      · rw [if_neg (by omega), if_pos y] at hb; exact hb rfl
    have nz : ∀ x y : Nat, x &&& y ≠ 0 → x ≠ 0 ∧ y ≠ 0 := fun x y h => ⟨fun c => h (by rw [c, Nat.zero_and]), fun c => h (by rw [c, Nat.and_zero])⟩
    have bz : ∀ o, btS (zG (zEn sy pb sz qs ((zI z).1 - 4)) o) ≠ 0 → (zG (zEn sy pb sz qs ((zI z).1 - 4)) o).1 ≠ 0 := fun o hb y => by
      unfold btS at hb
      rw [y, if_neg (by omega)] at hb
      exact hb rfl
    have arc : ∀ i q, qs[i]? = some q → (srO sy q ≠ 3 ∧ srO sy q ≠ 6 ∧ srO sy q ≠ 4) → wfC sy vis (tmG as i) ∧ ∃ x, chK sy wd (kyT sy r (tmG as i)) x ∧ G' (aOf sz i) = (10 + x.1, x.2) := by
      intro i q hi hq3
      have a1 := ar i q hi
      rw [Nat.zero_add] at a1
      rcases a1 with ⟨y, -⟩ | ⟨y, -⟩ | ⟨y, -⟩ | ⟨-, -, -, x, y1, -, y2⟩
      · omega
      · omega
      · omega
      · refine ⟨?_, x, y1, y2⟩
        rcases wfA_i qs as i q wf hi with ⟨w, -⟩ | ⟨w, -⟩ | ⟨w, -⟩ | ⟨-, -, -, w⟩
        · omega
        · omega
        · omega
        · exact w
    refine i_call (p := pe p) (z := zSG z G') (ze := zEn sy pb sz qs ((zI z).1 - 4)) c2 rfl qz.2.1 qz.2.2 (by show 7 ≤ (zI z).1; omega) hhi rfl ⟨rfl, rfl⟩ rfl rfl rfl (fun c _ => Nat.zero_and _) (fun o ho => ?_) (fun o o' no hb => ?_) (fun o c _ hb => ?_) (fun o _ h15 => k3 o h15) hp ?_
    · obtain ⟨i, q, hi, e4, e3, -, ep⟩ := idx o ho
      refine ⟨e3, ?_⟩
      rw [ep]
      show argK G' (zW z) (G' (o - 4)) (pKd sy pb q)
      rw [e4]
      have a1 := ar i q hi
      rw [Nat.zero_add] at a1
      unfold pKd
      rcases a1 with ⟨y, y1⟩ | ⟨y, k', y1, y2, y3⟩ | ⟨y, s, hs, ⟨y1, y2, y3⟩ | ⟨y1, y2, y3⟩⟩ | ⟨n3, n4, n6, k', y1, y2, y3⟩
      · rw [if_pos y, y1]
        exact Or.inl ⟨rfl, rfl⟩
      · rw [if_neg (by omega), if_pos y, y3]
        refine Or.inr (Or.inl ⟨rfl, Nat.le_refl _, ?_⟩)
        rcases y1 with ⟨u1, u2⟩ | ⟨u1, u2⟩ | ⟨u1, u2, u3⟩ | ⟨u1, u2, u3⟩
        · have px := y2 (Or.inr u1)
          refine Or.inl ⟨by show 10 + k'.1 = 12; omega, px, fun i hi => ?_⟩
          have hi : i < 1 := hi
          have : i = 0 := by omega
          subst this
          show (G' (k'.2.2 + ((0 : Nat) : Int))).1 = 1
          rw [show k'.2.2 + ((0 : Nat) : Int) = k'.2.2 by omega, k1 _ px]
          exact u2
        · have px := y2 (Or.inl u1)
          refine Or.inr (Or.inl ⟨by show 10 + k'.1 = 14; omega, px, rfl, fun i hi => ?_⟩)
          show (G' (k'.2.2 + (i : Int))).1 = 1
          rw [k1 _ (by omega)]
          exact u2 i hi
        · refine Or.inr (Or.inr (Or.inl ⟨by show 10 + k'.1 = 15; omega, ?_, ?_⟩))
          · show (G' k'.2.2).1 = 21
            rw [k1 _ (hG _ (by omega))]; exact u2
          · show 1 ≤ (G' k'.2.2).2.1
            rw [k1 _ (hG _ (by omega))]; exact u3
        · refine Or.inr (Or.inr (Or.inr ⟨by show 10 + k'.1 = 16; omega, ?_, rfl, ?_⟩))
          · show (G' k'.2.2).1 = 21
            rw [k1 _ (hG _ (by omega))]; exact u2
          · show k'.2.1 ≤ (G' k'.2.2).2.1
            rw [k1 _ (hG _ (by omega))]; exact u3
      · rw [if_neg (by omega), if_neg (by omega), if_pos y, y3]
        have px := ps s hs (by omega) (by omega)
        obtain ⟨-, -, e3', -⟩ := ec s hs
        refine Or.inr (Or.inl ⟨rfl, s6 q (List.mem_of_getElem? hi) y, Or.inl ⟨rfl, px, fun i hi => ?_⟩⟩)
        show (G' ((wd s).toInt + (i : Int))).1 = 1
        rw [k1 _ (by omega)]
        exact (e3' y1).1 i (by rw [y2]; exact hi)
      · rw [if_neg (by omega), if_neg (by omega), if_pos y, y3]
        have px := ps s hs (by omega) (by omega)
        obtain ⟨-, -, -, e4', -⟩ := ec s hs
        obtain ⟨g1, g2⟩ := e4' y1
        refine Or.inr (Or.inl ⟨rfl, s6 q (List.mem_of_getElem? hi) y, Or.inr (Or.inr (Or.inl ⟨rfl, ?_, ?_⟩))⟩)
        · show (G' (wd s).toInt).1 = 21
          rw [k1 _ px]; exact g1
        · show szO sy q ≤ (G' (wd s).toInt).2.1
          rw [k1 _ px, ← y2]; exact g2
      · rw [if_neg n3, if_neg n4, if_neg n6, y3]
        have rg4 := fun h => rg i q hi n3 n6 n4 4 (Or.inl rfl) h
        have rg8 := fun h => rg i q hi n3 n6 n4 8 (Or.inr rfl) h
        obtain ⟨t7, t8, t9, t1⟩ := ct _ y2
        refine Or.inr (Or.inr ⟨rfl, ?_⟩)
        rcases y1 with ⟨u, rfl⟩ | ⟨u, rfl⟩ | ⟨u, rfl⟩ | ⟨u, ub, rfl⟩ | ⟨u, ub, uc, ud, rfl⟩
        · have px := ps _ y2 (by omega) (by omega)
          refine Or.inr (Or.inl ⟨rfl, px, ?_, ?_⟩)
          · show (G' _).1 = 2
            rw [k1 _ px]; exact t7 u
          · show sbm (pb q &&& 12) (G' _).2.1
            rw [k1 _ px]
            exact sbm_12 (fun h => ((rg4 h).1 u).2) (fun h => ((rg8 h).1 u).2)
        · have px := ps _ y2 (by omega) (by omega)
          refine Or.inr (Or.inr (Or.inr ⟨rfl, ?_, ?_⟩))
          · show (G' _).1 = 22
            rw [k1 _ px]; exact t8 u
          · show sbm (pb q &&& 12) (G' _).2.1
            rw [k1 _ px]
            exact sbm_12 (fun h => ((rg4 h).2.1 u).2) (fun h => ((rg8 h).2.1 u).2)
        · refine Or.inl ⟨rfl, szO sy (kyT sy r (tmG as i)).1, t1 u, rfl, ?_⟩
          exact sbm_12 (fun h => ((rg4 h).2.2.1 u).2) (fun h => ((rg8 h).2.2.1 u).2)
        · have px := ps _ y2 (by omega) (by omega)
          refine Or.inr (Or.inr (Or.inl ⟨rfl, px, fun i hi => ⟨?_, ?_⟩⟩))
          · show (G' _).1 = 2
            rw [k1 _ (by show 0 < (wd (kyT sy r _).1).toInt + (i : Int); omega)]
            exact t9 u i hi
          · show sbm (pb q &&& 12) (G' _).2.1
            rw [k1 _ (by show 0 < (wd (kyT sy r _).1).toInt + (i : Int); omega)]
            exact sbm_12 (fun h => ((rg4 h).2.2.2 u).2.1 ub i hi) (fun h => ((rg8 h).2.2.2 u).2.1 ub i hi)
        · have px := ps _ y2 (by omega) (by omega)
          have px2 : 0 < (wd (kyT sy r (tmG as i)).1).toInt + (kyT sy r (tmG as i)).2.2.toInt := by omega
          refine Or.inr (Or.inl ⟨rfl, px2, ?_, ?_⟩)
          · show (G' _).1 = 2
            rw [k1 _ px2]
            have := t9 u (kyT sy r (tmG as i)).2.2.toInt.toNat (by omega)
            rw [show (((kyT sy r (tmG as i)).2.2.toInt.toNat : Nat) : Int) = (kyT sy r (tmG as i)).2.2.toInt by omega] at this
            exact this
          · show sbm (pb q &&& 12) (G' _).2.1
            rw [k1 _ px2]
            exact sbm_12 (fun h => ((rg4 h).2.2.2 u).2.2 ub uc ud) (fun h => ((rg8 h).2.2.2 u).2.2 ub uc ud)
    · obtain ⟨b1, b2⟩ := nz _ _ hb
      obtain ⟨i, q, hi, e4, -, ei, ep⟩ := idx o (bz o b1)
      obtain ⟨j, q', hj, e4', -, ej, ep'⟩ := idx o' (bz o' b2)
      rw [ep] at b1
      rw [ep'] at b2
      have cq := chan q b1
      have cq' := chan q' b2
      obtain ⟨w1, x, hx1, hx2⟩ := arc i q hi cq
      obtain ⟨w2, x', hx1', hx2'⟩ := arc j q' hj cq'
      show (∀ y, srcO (G' (o - 4)) y → ¬ srcO (G' (o' - 4)) y) ∧ ((G' (o - 4)).1 = 11 → (G' (o' - 4)).1 = 11 → (G' (o - 4)).2.2 ≠ (G' (o' - 4)).2.2)
      rw [e4, e4', hx2, hx2']
      have nij : i ≠ j := fun y => no (by omega)
      by_cases lt : i < j
      · exact chK_ap ap w1 w2 hx1 hx1' (nm i j q q' lt hi hj cq cq')
      · obtain ⟨r1, r2⟩ := chK_ap ap w2 w1 hx1' hx1 (nm j i q' q (by omega) hj hi cq' cq)
        exact ⟨fun y h1 h2 => r1 y h2 h1, fun h1 h2 h3 => r2 h2 h1 h3.symm⟩
    · have hb : btS _ &&& 0 ≠ 0 := hb
      rw [Nat.and_zero] at hb
      exact (hb rfl).elim
    · rw [show a + nCa sy qs as + 1 = a + (nCa sy qs as + 1) by omega]
      refine gf_cv hY h ⟨rfl, rfl, rfl, rfl, rfl, qz.1, qz.2.2, qz.2.1, fun o => ?_, fun o h15 => by have := tg o; omega⟩
      show zG z o = posG G' o ∨ _
      unfold posG
      by_cases y : 0 < o
      · rw [if_pos y]; exact Or.inl (k1 o y).symm
      · exact Or.inr (Or.inl (Classical.byContradiction fun c => y (hG o c)))
  rw [zSG_any qz.1] at start
  exact start
end
