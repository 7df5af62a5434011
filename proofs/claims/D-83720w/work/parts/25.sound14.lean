/-! behind a call -/
theorem mj_ca_ret {kd : Nat} {v : Option mj_V} {h' h0 : mj_H} {k : mj_F → Option mj_O} {n : Nat} {lv : mj_L} {r : List mj_V} {o : mj_O} (H : mj_ca kd (some (.inl (v, h'))) k (n, lv, r, h0) = some o) : k (n, lv, v.toList ++ r, h') = some o := by
  rcases kd with _ | _ | _ | _ | g <;> rcases v with _ | (v | v | ⟨g', v⟩) <;> first
    | exact H
    | (simp [mj_ca, mj_xv, mj_xi, mj_xl, mj_xr] at H; done)
    | skip
  by_cases hg : g' = g
  · subst hg
    simpa [mj_ca, mj_xr] using H
  · simp [mj_ca, mj_xr, hg] at H
theorem mj_ca_thr {kd : Nat} {q : Nat × mj_H} {k : mj_F → Option mj_O} {s : mj_F} {o : mj_O} (H : mj_ca kd (some (.inr q)) k s = some o) : o = .inr q := by
  rcases kd with _ | _ | _ | _ | g <;> exact (Option.some.inj H).symm
theorem mj_ca_none {kd : Nat} {k : mj_F → Option mj_O} {s : mj_F} {o : mj_O} (H : mj_ca kd none k s = some o) : False := by
  rcases kd with _ | _ | _ | _ | g <;> simp [mj_ca, mj_xv, mj_xi, mj_xl, mj_xr] at H
section Sound
variable {p : Program} {l : Launch} {e : Env} {R : Room} {s : State} {m : MethodId} {args : Array Value} {below : List Frame} {meth : Method} {c : Code} {Q : State → Prop} {dC : Nat → ClassId} {dI : Nat → Nat → Nat} {ad : Nat → Nat → Nat} {cA : Nat → ClassId} {E : State → Prop} {mi pc : Nat} {lv : mj_L} {r : List mj_V} {h' : mj_H} {v : Option mj_V} {ls : Array Slot} {H : Heap} {locs : List Loc} {st0 : List Value} {a0 : Array Value}
theorem mw_after (hr : va_Run p l e R s m args below meth c H locs 0 0 0 0 (F0 m pc ls st0) (r.map (mw_v ad)) (mw_Qc dC dI ad cA E v h' a0) (mw_A ad)) (hS : va_S (mw_A ad) s.heap H locs) (hl : lv_has ls (mw_l mi) (lv.map (fun q => (q.1, mw_v ad q.2)))) (hol : ∀ q ∈ lv, mw_vd q.2) (hor : ∀ w ∈ r, mw_vd w)
    (kk : mw_W p l e R s m args below meth c Q dC dI ad cA mi (pc + 3, lv, v.toList ++ r, h')) : W p l e R s m args below meth c H locs 0 0 Q (F0 m pc ls st0) := by
  rcases v with _ | (v | v | q)
  · exact va_callv (a := a0) hr hS (fun _ _ h => h) (fun _ h => h) (fun u t H1 locs1 ht hvm hpost hB _ _ hS1 => kk ⟨hol, hor, hB.2.2.2⟩ ls H1 locs1 hl (by rw [← ht]; exact hB.1) hS1)
  · exact va_calli (a := a0) hr hS (fun _ _ h => h) (fun _ h => h) (fun x u t H1 locs1 ht hvm hpost hB _ _ hS1 => by
      have hpost : x = v := hpost
      subst hpost
      exact kk ⟨hol, (fun w hw => by rcases List.mem_cons.mp hw with rfl | hw; trivial; exact hor w hw), hB.2.2.2⟩ ls H1 locs1 hl (by rw [← ht]; exact hB.1) hS1)
  · exact va_calll (a := a0) hr hS (fun _ _ h => h) (fun _ h => h) (fun x u t H1 locs1 ht hvm hpost hB _ _ hS1 => by
      have hpost : x = v := hpost
      subst hpost
      exact kk ⟨hol, (fun w hw => by rcases List.mem_cons.mp hw with rfl | hw; trivial; exact hor w hw), hB.2.2.2⟩ ls H1 locs1 hl (by rw [← ht]; exact hB.1) hS1)
  · exact va_callr (a := a0) hr hS (fun _ _ h => h) (fun _ h => h) (fun u x t H1 locs1 ht hvm hpost hB _ _ hS1 => by
      obtain ⟨hx, hB⟩ := hB
      subst hx
      exact kk ⟨hol, (fun w hw => by rcases List.mem_cons.mp hw with rfl | hw; exact hpost; exact hor w hw), hB.2.2.2⟩ ls H1 locs1 hl (by rw [← ht]; exact hB.1) hS1)
end Sound
