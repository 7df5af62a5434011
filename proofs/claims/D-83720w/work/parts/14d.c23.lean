/-! CONSTRUCTORS: what the second machine makes, the real one makes -/
def c2_rm (d mc ms : Nat) : Room := { frames := d + 3, cells := mc, slots := ms, locals := 40 * (d + 3) }
def c2_Q (dC : Nat → ClassId) (dI : Nat → Nat → Nat) (cA : Nat → ClassId) (eA : Nat → Nat) (B : Nat) (hs : List c2_C) : Array Value → State → Outcome → State → Prop := va_Qv (S := Unit) (fun _ => True) (fun _ t => va_P (dC, dI) mw_cl (c2_w B cA eA hs) t.heap) (c2_A B)
def c2_P (dC : Nat → ClassId) (dI : Nat → Nat → Nat) (cA : Nat → ClassId) (eA : Nat → Nat) (B : Nat) (s0 : State) (vs : List Value) (hs : List c2_C) : Array Value → State → Prop := fun v U => v = vs.toArray ∧ va_P (dC, dI) mw_cl (c2_w B cA eA hs) U.heap ∧ U.heap.size = B + hs.length ∧ mw_K dC dI cA U ∧ kEn s0 U
theorem mw_K.moved9 {dC : Nat → ClassId} {dI : Nat → Nat → Nat} {cA : Nat → ClassId} {u U : State} (hW : u.WarmedH U.vm) (h : mw_K dC dI cA u) : mw_K dC dI cA U := by
  refine ⟨va_K.moved hW.alike h.1, fun w hw => ?_⟩
  have hw2 := (List.mem_filter.mp hw).2
  have h2 := h.2 w hw
  cases w <;> simp only [Bool.false_eq_true] at hw2
  · exact va_Nw.warmM hW h2
  · exact va_Nw.warmF hW h2
theorem c2_bl {dC : Nat → ClassId} {dI : Nat → Nat → Nat} {cA : Nat → ClassId} {eA : Nat → Nat} {B : Nat} {s0 : State} {vs : List Value} {hs : List c2_C} : FrameBlind (c2_P dC dI cA eA B s0 vs hs) := by
  intro a U g mk ⟨h1, h2, h3, h4, h5⟩
  exact ⟨h1, h2, h3, mw_K.moved9 (State.WarmedH.refl U) h4, h5.1, h5.2⟩
def c2_vws : List Cond := Cond.code c2_vy c2_vb 0 (some (.array (.object "LinkedCores$Word"))) :: mw_good
def c2_vrm : Room := { frames := 2, cells := 1, slots := 23, locals := 60 }
/-- what is known at the law's start; Word.values() -/
def c2_H (l : Launch) (dC : Nat → ClassId) (dI : Nat → Nat → Nat) (cA : Nat → ClassId) (eA : Nat → Nat) (B : Nat) (s0 : State) : Prop := s0.heap.size = B ∧ (∀ a, (a = 12 ∨ a = 13 ∨ a = 17 ∨ a = 18) → va_AO (c2_rc a) s0) ∧ ∀ hs : List c2_C, Met l c2_vy c2_vws c2_vrm (c2_P dC dI cA eA B s0 [] hs) (va_Qr (S := Unit) (fun _ => True) (fun _ a t => va_P (dC, dI) mw_cl (c2_w B cA eA (hs ++ [(5, 23, [], [])])) t.heap ∧ a = B + hs.length) (c2_A B)) 1 23 (c2_A B)
def c2_X (dC : Nat → ClassId) (dI : Nat → Nat → Nat) (cA : Nat → ClassId) (B : Nat) (s0 : State) (p : Program) (s : State) (m : MethodId) (args : Array Value) (meth : Method) (c : Code) (mi : Nat) (hs0 : List c2_C) : Prop := p.tables.exec = Jvm.exec ∧ c.code = c2_b mi ∧ c.maxLocals = c2_l mi ∧ meth.sig.returnType = none ∧ meth.locks = false ∧ s.vm.findClass (c2_on mi) = some m.cls ∧ (∀ w ∈ mw_good, w.before args s = true) ∧ mw_K dC dI cA s ∧ kEn s0 s ∧ meth.name = "<init>" ∧ s.heap.size = B + hs0.length
theorem c2_tys {dC : Nat → ClassId} {dI : Nat → Nat → Nat} {cA : Nat → ClassId} {s : State} {c' : ClassId} {ty : FieldType} {t0 : Nat} {cl0 : ClassId} (h : va_K (dC, dI) mw_cl (mw_tys cA ++ [(c', ty)]) s) (ht : (mw_tys cA)[t0]? = some (cl0, ty)) : c' = cl0 := by
  have h1 := (h.2 t0 (cl0, ty) (by rw [List.getElem?_append_left (List.getElem?_eq_some_iff.mp ht).1]; exact ht)).2
  have h2 := (h.2 9 (c', ty) (by rw [List.getElem?_append_right (by show 9 ≤ 9; omega)]; rfl)).2
  cases ty with
  | object C =>
    obtain ⟨_, _, -, -, -, e1⟩ := h1
    obtain ⟨_, _, -, -, -, e2⟩ := h2
    exact Option.some.inj (e2.symm.trans e1)
  | _ => exact Option.some.inj (Eq.trans (Eq.symm h2) h1)
section
variable {l : Launch} {dC : Nat → ClassId} {dI : Nat → Nat → Nat} {cA : Nat → ClassId} {eA : Nat → Nat} {B : Nat} {s0 : State}
variable {p : Program} {e : Env} {s : State} {m : MethodId} {args : Array Value} {below : List Frame} {meth : Method} {c : Code}
/-- the real machine goes on from a frame of the second machine -/
def c2_G (l : Launch) (dC : Nat → ClassId) (dI : Nat → Nat → Nat) (cA : Nat → ClassId) (eA : Nat → Nat) (B : Nat) (p : Program) (e : Env) (s : State) (m : MethodId) (args : Array Value) (below : List Frame) (meth : Method) (c : Code) (mi d : Nat) (hs0 hs' : List c2_C) (f : c2_F) : Prop := ∀ (ls : Array Slot) (H : Heap) (locs : List Loc) (cells slots : Nat), lv_has ls (c2_l mi) (f.2.1.map (fun q => (q.1, c2_v B q.2))) → va_P (dC, dI) mw_cl (c2_w B cA eA f.2.2.2) H → va_S (c2_A B) s.heap H locs → hs0.length + cells = f.2.2.2.length → c2_sz hs0 + slots = c2_sz f.2.2.2 → W p l e (c2_rm d (hs'.length - hs0.length) (c2_sz hs' - c2_sz hs0)) s m args below meth c H locs cells slots (MQ below (c2_Q dC dI cA eA B hs') args s (hs'.length - hs0.length) (c2_sz hs' - c2_sz hs0) (c2_A B)) (F0 m f.1 ls (f.2.2.1.map (c2_v B)))
variable {mi d : Nat} {hs0 hs' hs : List c2_C} {pc nx a b : Nat} {v : Int32} {lv : c2_L} {st : List c2_V}
theorem c2_sum (B : Nat) (r : List c2_V) : ((r.map (c2_v B)).map fun v => v.category).sum ≤ 2 * r.length := by
  induction r with
  | nil => exact Nat.le_refl _
  | cons x r ih =>
    have h1 : (c2_v B x).category ≤ 2 := by rw [c2_cat]; rcases x with x | k | (_ | _) <;> exact Nat.le_of_ble_eq_true rfl
    simp only [List.map_cons, List.sum_cons, List.length_cons]
    omega
theorem nI_nlt' {b : Nat} (h : b < 2 ^ 31) : ¬ nI b < 0 := by
  intro z
  rw [Int32.lt_iff_toInt_lt, nI_toInt h] at z
  have : (0 : Int32).toInt = 0 := rfl
  omega
theorem nI_clamp' {b : Nat} (h : b < 2 ^ 31) : (nI b).toNatClampNeg = b := nI_clamp h
theorem c2_argl (B : Nat) : ∀ (as : List c2_V) (i : Nat), (∀ v ∈ as, c2_ct v = 1) → lv_args i (as.map (c2_v B)) = (c2_args i as).map (fun q => (q.1, c2_v B q.2))
  | [], _, _ => rfl
  | v :: vs, i, h => by
    have h1 := h v List.mem_cons_self
    have h2 := c2_argl B vs (i + 1) (fun w hw => h w (List.mem_cons_of_mem _ hw))
    show (i, c2_v B v) :: lv_args (if (c2_v B v).category = 2 then i + 2 else i + 1) (vs.map (c2_v B)) = (i, c2_v B v) :: (c2_args (i + 1) vs).map (fun q => (q.1, c2_v B q.2))
    rw [if_neg (by rw [c2_cat, h1]; decide), h2]
theorem c2_sll (B : Nat) : ∀ L : List c2_V, (∀ v ∈ L, c2_ct v = 1) → (lg_sl (L.map (c2_v B))).length = L.length
  | [], _ => rfl
  | v :: L, h => by
    have ih := c2_sll B L (fun w hw => h w (List.mem_cons_of_mem _ hw))
    have h1 : ¬ (c2_v B v).category = 2 := by rw [c2_cat, h v List.mem_cons_self]; decide
    show (lg_sl (c2_v B v :: L.map (c2_v B))).length = L.length + 1
    unfold lg_sl at ih ⊢
    rw [List.flatMap_cons, if_neg h1, List.length_append, ih]
    show 1 + L.length = L.length + 1
    omega
theorem c2_met {a d' i : Nat} {as : List c2_V} {hs hs1 : List c2_C} (hH : c2_H l dC dI cA eA B s0) (ha : a < 13) (hlen : as.length = c2_na a) (hct : ∀ v ∈ as, c2_ct v = 1)
    (body : ∀ (p : Program) (e : Env) (s : State) (m : MethodId) (args : Array Value) (below : List Frame) (meth : Method) (c : Code), c2_X dC dI cA B s0 p s m args meth c a hs → c2_G l dC dI cA eA B p e s m args below meth c a d' hs hs1 (0, c2_args 0 (.inr (.inl i) :: as), [], hs)) :
    Met l (c2_y a) (Cond.code (c2_y a) (c2_b a) (c2_l a) none :: mw_good) (c2_rm d' (hs1.length - hs.length) (c2_sz hs1 - c2_sz hs)) (c2_P dC dI cA eA B s0 (((.inr (.inl i) : c2_V) :: as).map (c2_v B)) hs) (c2_Q dC dI cA eA B hs1) (hs1.length - hs.length) (c2_sz hs1 - c2_sz hs) (c2_A B) := by
  obtain ⟨m1, m2, m3, m4, m5, m6, m7⟩ := c2_M a ha
  refine Met.ofW (cc := c2_b a) (maxL := c2_l a) (ret := none) m4 rfl ?_
  intro p e s m args below meth c s₁ Bd hml hv
  obtain ⟨rfl, hP, hsz, hK, hE⟩ := hv
  have hts := atoms_spec (ws := Cond.code (c2_y a) (c2_b a) (c2_l a) none :: mw_good) Bd.pre
  have hown : s.vm.findClass (c2_on a) = some m.cls := findClass_of_methodNamed Bd.named
  have hin : meth.name = "<init>" := (name_of_methodNamed Bd.named Bd.method).1
  have X : c2_X dC dI cA B s0 p s m _ meth c a hs := ⟨Bd.exec, Bd.bytes, hml, Bd.returns, Bd.notSynchronized, hown, fun w hw => hts w (List.mem_cons_of_mem _ hw), hK, hE, hin, hsz⟩
  have hall : ∀ v ∈ ((.inr (.inl i) : c2_V) :: as), c2_ct v = 1 := fun v hv => by
    rcases List.mem_cons.mp hv with rfl | hv
    · rfl
    · exact hct v hv
  have hsl : ∀ L : List c2_V, (∀ v ∈ L, c2_ct v = 1) → (lg_sl (L.map (c2_v B))).length = L.length := c2_sll B
  have hl := lv_entry (((.inr (.inl i) : c2_V) :: as).map (c2_v B)) (n := c2_l a) (by rw [hsl _ hall]; show as.length + 1 ≤ c2_l a; omega)
  rw [lg_entry_eq]
  generalize (lg_sl (((.inr (.inl i) : c2_V) :: as).map (c2_v B)) ++ List.replicate (c2_l a - (lg_sl (((.inr (.inl i) : c2_V) :: as).map (c2_v B))).length) Slot.unset).toArray = ls at hl ⊢
  rw [c2_argl B _ 0 hall] at hl
  exact body p e s m _ below meth c X ls s.heap [] 0 0 hl hP va_S.rf rfl rfl
theorem c2_main (hH : c2_H l dC dI cA eA B s0) : ∀ (n d mi : Nat) (f : c2_F) (hs' : List c2_C), c2_ex n d mi f = some hs' → mi < 13 → ∀ (p : Program) (e : Env) (s : State) (m : MethodId) (args : Array Value) (below : List Frame) (meth : Method) (c : Code) (hs0 : List c2_C), c2_X dC dI cA B s0 p s m args meth c mi hs0 → c2_le hs0 f.2.2.2 → c2_G l dC dI cA eA B p e s m args below meth c mi d hs0 hs' f := by
  intro n
  induction n with
  | zero => intro d mi f hs' h; cases h
  | succ n ih =>
    intro d mi f hs' h hmi p e s m args below meth c hs0 X hle
    obtain ⟨pc, lv, st, hs⟩ := f
    have hmono := c2_mono _ _ _ _ _ h
    unfold c2_ex at h
    cases hP9 : c2_find pc (c2_cs mi) with
    | none => rw [hP9] at h; cases h
    | some P =>
      rw [hP9] at h
      have fit := c2_ok mi hmi hP9
      clear hP9
      obtain ⟨o, nx, a, b, v⟩ := P
      dsimp only at h
      have X0 := X
      obtain ⟨hx, hb, hml, hr, hlk, hown, hts, hK, hE, hin, hsz⟩ := X
      obtain ⟨hB, hAO, hV⟩ := id hH
      have go : ∀ f, c2_ex n d mi f = some hs' → c2_le hs0 f.2.2.2 → c2_G l dC dI cA eA B p e s m args below meth c mi d hs0 hs' f := fun f hf hl => ih d mi f hs' hf hmi p e s m args below meth c hs0 X0 hl
      have hA : ∀ q, s.heap.size ≤ q → c2_A B q := fun q hq => by show B ≤ q; omega
      dsimp only at hle hmono
      intro ls H locs cells slots hl hP hS hcs hsl
      dsimp only at hl hP hcs hsl ⊢
      have hD : va_D (c2_A B) (c2_w B cA eA hs) := c2_D
      have hnew : ∀ {c9 : c2_C} {f9 : c2_F}, c2_ex n d mi f9 = some hs' → f9.2.2.2 = hs ++ [c9] → cells + 1 ≤ hs'.length - hs0.length ∧ slots + c2_n c9 ≤ c2_sz hs' - c2_sz hs0 := by
        intro c9 f9 hf e9
        have := c2_mono _ _ _ _ _ hf
        rw [e9] at this
        obtain ⟨h1, h2⟩ := this
        rw [c2_sa] at h2
        rw [List.length_append] at h1
        have : [c9].length = 1 := rfl
        constructor <;> omega
      revert h fit
      match o with
      | 0 =>
        intro h fit
        obtain ⟨rfl, fit⟩ := fit
        simp only [c2_do] at h
        split at h
        · rename_i x hg
          have hm := c2_getm B hg
          have hat := hl.2.2 _ hm
          split at h
          · cases hb0 : Nat.beq b 0 with
            | false => rw [hb0] at h; cases h
            | true =>
              rw [hb0] at h
              have hb0 := Nat.eq_of_beq_eq_true hb0
              subst hb0
              rcases fit with ⟨-, k, d1, d2⟩ | ⟨z, -⟩
              · exact lv_aload_n hx hb d1 d2 hat (go _ h hle ls H locs cells slots hl hP hS hcs hsl)
              · cases z
          · cases hb0 : Nat.beq b 1 with
            | false => rw [hb0] at h; cases h
            | true =>
              rw [hb0] at h
              have hb0 := Nat.eq_of_beq_eq_true hb0
              subst hb0
              rcases fit with ⟨z, -⟩ | ⟨-, k, d1, d2⟩
              · cases z
              · exact lv_iload_n hx hb d1 d2 hat (go _ h hle ls H locs cells slots hl hP hS hcs hsl)
          · cases h
        · cases h
      | 1 =>
        intro h fit
        have g := go _ h hle ls H locs cells slots hl hP hS hcs hsl
        rcases fit with ⟨n1, d1, d2, rfl⟩ | ⟨n1, d1, d2, rfl⟩ | ⟨n1, d1, d2, rfl⟩ | ⟨n1, d1, d2, rfl⟩
        · exact lv_iconst hx hb d1 d2 g
        · exact lv_bipush hx hb d1 d2 g
        · exact lv_sipush hx hb d1 d2 g
        · exact lv_ldc hx hb hown (hts _ d2) d1 g
      | 2 =>
        intro h fit
        obtain ⟨rfl, ⟨ha1, ha2⟩, k, d1, d2⟩ := fit
        have hk4 : a < c2_l mi := by rw [ha1]; exact c2_on0 mi hmi ha2
        simp only [c2_do] at h
        split at h
        · rename_i x r
          exact lv_istore_n (lv' := (c2_st lv a (.inl x)).map (fun q => (q.1, c2_v B q.2))) hx hb d1 d2 hl hk4 (c2_stm B (x := .inl x)) (fun ls' hl' => go _ h hle ls' H locs cells slots hl' hP hS hcs hsl)
        · cases h
      | 3 =>
        intro h fit
        obtain ⟨rfl, ⟨ha1, ha2⟩, n1, d1, d2⟩ := fit
        have hk4 : a < c2_l mi := by rw [ha1]; exact c2_on0 mi hmi ha2
        simp only [c2_do] at h
        split at h
        · rename_i x hg
          obtain ⟨k, hk⟩ := List.getElem?_of_mem (c2_getm B hg)
          exact lv_iinc (v := x + v) (lv' := (c2_st lv a (.inl (x + v))).map (fun q => (q.1, c2_v B q.2))) hx hb d1 hl hk (by rw [d2]) hk4 (c2_stm B (x := .inl (x + v))) (fun ls' hl' => go _ h hle ls' H locs cells slots hl' hP hS hcs hsl)
        · cases h
      | 4 =>
        intro h fit
        obtain ⟨off, d1, d2⟩ := fit
        exact lv_goto hx hb d1 d2 (go _ h hle ls H locs cells slots hl hP hS hcs hsl)
      | 5 =>
        intro h fit
        obtain ⟨rfl, off, d1, d2⟩ := fit
        simp only [c2_do] at h
        split at h
        · rename_i y x r
          refine lv_icmp_ge hx hb d1 d2 (fun z => ?_) (fun z => ?_)
          · rw [if_pos z] at h
            exact go _ h hle ls H locs cells slots hl hP hS hcs hsl
          · rw [if_neg z] at h
            exact go _ h hle ls H locs cells slots hl hP hS hcs hsl
        · cases h
      | 6 =>
        intro h fit
        obtain ⟨rfl, d1⟩ := fit
        simp only [c2_do] at h
        split at h
        · exact lv_dup hx hb d1 rfl (go _ h hle ls H locs cells slots hl hP hS hcs hsl)
        · cases h
      | 7 =>
        intro h fit
        obtain ⟨rfl, ha, d1, d2⟩ := fit
        obtain ⟨C, T, N, ty, k1, k2, k3, k4, k5, k6, k7, k8⟩ := c2_Ko a ha
        have eC : C = c2_on a := c2_cln k1 ha
        subst eC
        obtain ⟨r1, r2⟩ := hnew (c9 := (0, a, c2_z a, [])) h rfl
        have en : c2_n (0, a, c2_z a, []) = N := k6
        rw [en] at r2
        refine va_new (D := (dC, dI)) (ci := a) (fs := (c2_z a).map (c2_v B)) (tys := mw_tys cA) hx hb hts k2 ty k3 hown (hts _ d2) (hts _ k7) (hts _ k8) hK.1 hP hD hS hA k1 (fun j hj => by rw [c2_zB]; exact k5 j hj) r1 r2 d1 (fun q H1 hP1 hD1 hS1 => ?_)
        intro T1 hT1 X1
        have hq : q = B + hs.length := c2_q hP1 hD1 (by rw [← hT1]; have := X1.heapSize; omega)
        subst hq
        have e9 : c2_e B cA eA (0, a, c2_z a, []) = .inr (a, (c2_z a).map (c2_v B)) := rfl
        rw [← e9, ← c2_wa] at hP1
        exact go _ h ⟨by rw [List.length_append]; omega, by rw [c2_sa]; omega⟩ ls H1 locs (cells + 1) (slots + N) hl hP1 hS1 (by show _ = (hs ++ [_]).length; rw [List.length_append]; show _ = hs.length + 1; omega) (by show _ = c2_sz (hs ++ [_]); rw [c2_sa, en]; omega) T1 hT1 X1
      | 8 =>
        intro h fit
        obtain ⟨rfl, ha, hb9, t, d1, d2, d3⟩ := fit
        simp only [c2_do] at h
        split at h
        · rename_i x r
          split at h
          · rename_i hxb
            subst hxb
            obtain ⟨r1, r2⟩ := hnew (c9 := (a + 1, b, [], [])) h rfl
            have en : c2_n (a + 1, b, [], []) = b := rfl
            rw [en] at r2
            have a4 : a = 0 ∨ a = 1 ∨ a = 2 ∨ a = 3 := by omega
            have hn : ¬ nI b < 0 := nI_nlt' (by omega)
            have hN : (nI b).toNatClampNeg = b := nI_clamp' (by omega)
            have fin : ∀ (c' : ClassId) (x9 : vp_A) (q : Nat) (H1 : Heap), (c', x9) = (match c2_e B cA eA (a + 1, b, [], []) with | .inl z => z | .inr _ => (c', x9)) → c2_e B cA eA (a + 1, b, [], []) = .inl (c', x9) → va_P (dC, dI) mw_cl (c2_w B cA eA hs ++ [(q, .inl (c', x9))]) H1 → va_D (c2_A B) (c2_w B cA eA hs ++ [(q, .inl (c', x9))]) → va_S (c2_A B) s.heap H1 locs → W p l e (c2_rm d (hs'.length - hs0.length) (c2_sz hs' - c2_sz hs0)) s m args below meth c H1 locs (cells + 1) (slots + b) (MQ below (c2_Q dC dI cA eA B hs') args s (hs'.length - hs0.length) (c2_sz hs' - c2_sz hs0) (c2_A B)) (F0 m (pc + 2) ls (.ref q :: r.map (c2_v B))) := by
              intro c' x9 q H1 _ e9 hP1 hD1 hS1 T1 hT1 X1
              have hq : q = B + hs.length := c2_q hP1 hD1 (by rw [← hT1]; have := X1.heapSize; omega)
              subst hq
              rw [← e9, ← c2_wa] at hP1
              exact go _ h ⟨by rw [List.length_append]; omega, by rw [c2_sa]; omega⟩ ls H1 locs (cells + 1) (slots + b) hl hP1 hS1 (by show _ = (hs ++ [_]).length; rw [List.length_append]; show _ = hs.length + 1; omega) (by show _ = c2_sz (hs ++ [_]); rw [c2_sa, en]; omega) T1 hT1 X1
            rcases a4 with rfl | rfl | rfl | rfl
            · refine va_newa (D := (dC, dI)) (tys := mw_tys cA) (ty := .int) (a0 := (b, .inl (fun _ => 0))) (N' := b) hx hb (by rw [d2]; exact hts _ d3) d2 hK.1 hP hD hS hA (fun _ => rfl) hn hN (by show b * 4 ≤ _; omega) r1 r2 d1 (fun q c' H1 hK1 hP1 hD1 hS1 => ?_)
              have := c2_tys (t0 := 0) (cl0 := cA 0) hK1 rfl
              subst this
              exact fin _ _ q H1 rfl rfl hP1 hD1 hS1
            · refine va_newa (D := (dC, dI)) (tys := mw_tys cA) (ty := .boolean) (a0 := (b, .inl (fun _ => 0))) (N' := b) hx hb (by rw [d2]; exact hts _ d3) d2 hK.1 hP hD hS hA (fun _ => rfl) hn hN (by show b * 1 ≤ _; omega) r1 r2 d1 (fun q c' H1 hK1 hP1 hD1 hS1 => ?_)
              have := c2_tys (t0 := 1) (cl0 := cA 1) hK1 rfl
              subst this
              exact fin _ _ q H1 rfl rfl hP1 hD1 hS1
            · refine va_newa (D := (dC, dI)) (tys := mw_tys cA) (ty := .byte) (a0 := (b, .inl (fun _ => 0))) (N' := b) hx hb (by rw [d2]; exact hts _ d3) d2 hK.1 hP hD hS hA (fun _ => rfl) hn hN (by show b * 1 ≤ _; omega) r1 r2 d1 (fun q c' H1 hK1 hP1 hD1 hS1 => ?_)
              have := c2_tys (t0 := 2) (cl0 := cA 2) hK1 rfl
              subst this
              exact fin _ _ q H1 rfl rfl hP1 hD1 hS1
            · refine va_newa (D := (dC, dI)) (tys := mw_tys cA) (ty := .long) (a0 := (b, .inr (.inl (fun _ => 0)))) (N' := b) hx hb (by rw [d2]; exact hts _ d3) d2 hK.1 hP hD hS hA (fun _ => rfl) hn hN (by show b * 8 ≤ _; omega) r1 r2 d1 (fun q c' H1 hK1 hP1 hD1 hS1 => ?_)
              have := c2_tys (t0 := 3) (cl0 := cA 3) hK1 rfl
              subst this
              exact fin _ _ q H1 rfl rfl hP1 hD1 hS1
          · cases h
        · cases h
      | 9 =>
        intro h fit
        obtain ⟨rfl, ha, hb9, k, d1, d2⟩ := fit
        simp only [c2_do] at h
        split at h
        · rename_i x r
          split at h
          · rename_i hxb
            subst hxb
            obtain ⟨r1, r2⟩ := hnew (c9 := (a, b, [], [])) h rfl
            have en : c2_n (a, b, [], []) = b := by rcases ha with rfl | rfl | rfl | rfl <;> rfl
            rw [en] at r2
            have hn : ¬ nI b < 0 := nI_nlt' (by omega)
            have hN : (nI b).toNatClampNeg = b := nI_clamp' (by omega)
            have hao : va_AO (c2_rc a) s := va_AO.moved hE.1.alike (hAO a ha)
            refine va_newq (D := (dC, dI)) (tys := mw_tys cA) (N' := b) hx hb hown (hts _ d2) hao hK.1 hP hD hS hA hn hN (by omega) r1 r2 d1 (fun q c' H1 hK1 hP1 hD1 hS1 => ?_)
            have e9 : c' = cA a := by
              rcases ha with rfl | rfl | rfl | rfl
              · exact c2_tys (t0 := 4) (cl0 := cA 12) hK1 rfl
              · exact c2_tys (t0 := 5) (cl0 := cA 13) hK1 rfl
              · exact c2_tys (t0 := 7) (cl0 := cA 17) hK1 rfl
              · exact c2_tys (t0 := 8) (cl0 := cA 18) hK1 rfl
            subst e9
            intro T1 hT1 X1
            have hq : q = B + hs.length := c2_q hP1 hD1 (by rw [← hT1]; have := X1.heapSize; omega)
            subst hq
            have e9 : c2_e B cA eA (a, b, [], []) = .inl (cA a, b, .inr (.inr (.inr (.inr (fun _ => none))))) := by rcases ha with rfl | rfl | rfl | rfl <;> rfl
            rw [← e9, ← c2_wa] at hP1
            exact go _ h ⟨by rw [List.length_append]; omega, by rw [c2_sa]; omega⟩ ls H1 locs (cells + 1) (slots + b) hl hP1 hS1 (by show _ = (hs ++ [_]).length; rw [List.length_append]; show _ = hs.length + 1; omega) (by show _ = c2_sz (hs ++ [_]); rw [c2_sa, en]; omega) T1 hT1 X1
          · cases h
        · cases h
      | 10 =>
        intro h fit
        obtain ⟨rfl, ha, k, q, d1, d2, d3, d4⟩ := fit
        obtain ⟨C, T, N, ty, k1, k2, k3, k4, k5, k6, k7, k8⟩ := c2_Ko a ha
        cases d2.symm.trans k1
        simp only [c2_do] at h
        split at h
        · rename_i i r
          split at h
          · rename_i a' fs L hsi
            cases hb0 : Nat.beq a' a with
            | false => rw [hb0] at h; cases h
            | true =>
              rw [hb0] at h
              have hb0 := Nat.eq_of_beq_eq_true hb0
              subst hb0
              dsimp only [cond_true] at h
              split at h
              · rename_i x hfx
                have he : (c2_w B cA eA hs)[i]? = some (B + i, .inr (a', fs.map (c2_v B))) := by rw [c2_wg, hsi]; rfl
                exact va_get (D := (dC, dI)) (ci := a') (v := c2_v B x) (tys := mw_tys cA) hx hb hts k2 hown hK.1 hP i he k1 b d3 (hts _ d4) (fun _ h9 => h9) (by rw [List.getElem?_map, hfx]; rfl) d1 (go _ h hle ls H locs cells slots hl hP hS hcs hsl)
              · cases h
          · cases h
        · cases h
      | 11 =>
        intro h fit
        obtain ⟨rfl, ha, k, q, ty9, d1, d2, d3, d4, d5, d6, d7, d8⟩ := fit
        obtain ⟨C, T, N, ty, k1, k2, k3, k4, k5, k6, k7, k8⟩ := c2_Ko a ha
        cases d2.symm.trans k1
        have put : ∀ (x : c2_V) (i : Nat) (fs : List c2_V) (L : List (Nat × Nat)) (r : List c2_V), hs[i]? = some (0, a, fs, L) → b < fs.length → narrow ty9 (c2_v B x) = c2_v B x → fits ty9 (c2_v B x) = true → c2_ex n d mi (pc + 3, lv, r, hs.set i (0, a, fs.set b x, L)) = some hs' → W p l e (c2_rm d (hs'.length - hs0.length) (c2_sz hs' - c2_sz hs0)) s m args below meth c H locs cells slots (MQ below (c2_Q dC dI cA eA B hs') args s (hs'.length - hs0.length) (c2_sz hs' - c2_sz hs0) (c2_A B)) (F0 m pc ls (c2_v B x :: .ref (B + i) :: r.map (c2_v B))) := by
          intro x i fs L r hsi hbf hn hf hex
          have he : (c2_w B cA eA hs)[i]? = some (B + i, .inr (a, fs.map (c2_v B))) := by rw [c2_wg, hsi]; rfl
          have es : c2_sz (hs.set i (0, a, fs.set b x, L)) = c2_sz hs := c2_ss hsi (by simp [c2_n])
          have fin : ∀ (H1 : Heap) (locs1 : List Loc), va_P (dC, dI) mw_cl ((c2_w B cA eA hs).set i (B + i, .inr (a, (fs.map (c2_v B)).set b (c2_v B x)))) H1 → va_S (c2_A B) s.heap H1 locs1 → W p l e (c2_rm d (hs'.length - hs0.length) (c2_sz hs' - c2_sz hs0)) s m args below meth c H1 locs1 cells slots (MQ below (c2_Q dC dI cA eA B hs') args s (hs'.length - hs0.length) (c2_sz hs' - c2_sz hs0) (c2_A B)) (F0 m (pc + 3) ls (r.map (c2_v B))) := by
            intro H1 locs1 hP1 hS1
            have e9 : c2_e B cA eA (0, a, fs.set b x, L) = .inr (a, (fs.map (c2_v B)).set b (c2_v B x)) := by
              show Sum.inr (a, (fs.set b x).map (c2_v B)) = _
              rw [List.map_set]
            rw [← e9, c2_ws] at hP1
            exact go _ hex ⟨by rw [List.length_set]; omega, by rw [es]; omega⟩ ls H1 locs1 cells slots hl hP1 hS1 (by show _ = (hs.set _ _).length; rw [List.length_set]; exact hcs) (by show _ = c2_sz (hs.set _ _); rw [es]; exact hsl)
          cases hfin : (T b).2.2.2 with
          | false => exact va_put (D := (dC, dI)) (ci := a) (v := c2_v B x) (ty := ty9) (tys := mw_tys cA) hx hb hts k2 ty k3 k4 hown hK.1 hP hD hS i he k1 b d3 (hts _ d4) (fun _ h9 => h9) hfin d6 hn hf (by rw [List.length_map]; exact hbf) d1 (fun H1 locs1 hP1 _ hS1 => fin H1 locs1 hP1 hS1)
          | true => exact va_putF (D := (dC, dI)) (ci := a) (v := c2_v B x) (ty := ty9) (tys := mw_tys cA) hx hb hts k2 ty k3 k4 hown hK.1 hP hD hS i he k1 b d3 (hts _ d4) (fun _ h9 => h9) hfin hin d5 d6 hn hf (by rw [List.length_map]; exact hbf) d1 (fun H1 locs1 hP1 _ hS1 => fin H1 locs1 hP1 hS1)
        simp only [c2_do] at h
        split at h
        · rename_i x i r
          split at h
          · rename_i a' fs L hsi
            split at h
            · rename_i hc
              obtain ⟨rfl, hbf, hv0⟩ := hc
              have := d7 hv0
              subst this
              exact put (.inl x) i fs L r hsi hbf rfl rfl h
            · cases h
          · cases h
        · rename_i x i r
          split at h
          · rename_i a' fs L hsi
            split at h
            · rename_i hc
              obtain ⟨rfl, hbf, hv0⟩ := hc
              rcases d8 hv0 with ⟨t, rfl⟩ | ⟨t, rfl⟩
              · exact put (.inr (.inl x)) i fs L r hsi hbf rfl rfl h
              · exact put (.inr (.inl x)) i fs L r hsi hbf rfl rfl h
            · cases h
          · cases h
        · cases h
      | 12 =>
        intro h fit
        obtain ⟨rfl, ha, hba, k, d1, d2⟩ := fit
        obtain ⟨m1, m2, m3, m4, m5, m6, m7⟩ := c2_M a ha
        simp only [c2_do] at h
        split at h
        · rename_i as i r hpop
          split at h
          · rename_i hr9
            obtain ⟨hr4, hct9⟩ := hr9
            split at h
            · rename_i hs1 hcall
              cases d with
              | zero => cases hcall
              | succ d' =>
                have hcall : c2_ex n d' a (0, c2_args 0 (.inr (.inl i) :: as), [], hs) = some hs1 := hcall
                obtain ⟨ys, p1, p2, p3⟩ := c2_pops _ _ _ _ _ hpop
                rw [List.append_nil] at p1
                subst p1 p2
                have mo1 := c2_mono _ _ _ _ _ hcall
                have mo2 := c2_mono _ _ _ _ _ h
                dsimp only at mo1 mo2
                have hct : ∀ v ∈ ys.reverse, c2_ct v = 1 := fun v hv => Nat.eq_of_beq_eq_true (List.all_eq_true.mp hct9 v hv)
                have hlen : ys.reverse.length = c2_na a := by rw [List.length_reverse, p3, hba]
                have hM : Met l (c2_y a) (Cond.code (c2_y a) (c2_b a) (c2_l a) none :: mw_good) (c2_rm d' (hs1.length - hs.length) (c2_sz hs1 - c2_sz hs)) (c2_P dC dI cA eA B s0 (((.inr (.inl i) : c2_V) :: ys.reverse).map (c2_v B)) hs) (c2_Q dC dI cA eA B hs1) (hs1.length - hs.length) (c2_sz hs1 - c2_sz hs) (c2_A B) := c2_met hH ha hlen hct (fun p e s m args below meth c X => ih d' a _ hs1 hcall ha p e s m args below meth c hs X ⟨Nat.le_refl _, Nat.le_refl _⟩)
                have hst : ((ys ++ .inr (.inl i) :: r).map (c2_v B)) = (ys.reverse.map (c2_v B)).reverse ++ .ref (B + i) :: r.map (c2_v B) := by simp [c2_v]
                rw [hst]
                intro T hT Y
                have hsize : H.size = B + hs.length := c2_size hP (by have := hS.1; omega) (by rw [← hT]; have := Y.heapSize; omega)
                have hpre : PreS s H (c2_P dC dI cA eA B s0 (((.inr (.inl i) : c2_V) :: ys.reverse).map (c2_v B)) hs) (.ref (B + i) :: ys.reverse.map (c2_v B)) := ⟨c2_bl, fun U hU hW => ⟨rfl, by rw [hU]; exact hP, by rw [hU]; exact hsize, mw_K.moved9 hW hK, hE.1.trans hW, fun q hq => by rw [hU, hS.2.1 q (by omega) (fun z => by have z : B ≤ q := z; omega)]; exact hE.2 q hq⟩⟩
                have hgood : GoodIn mw_good (Cond.code (c2_y a) (c2_b a) (c2_l a) none :: mw_good) := fun w hw => by
                  rcases List.mem_cons.mp hw with rfl | hw
                  · exact ⟨m1, good_of_word (List.mem_filter.mp m1).2⟩
                  · exact ⟨hw, good_of_word (List.mem_filter.mp hw).2⟩
                have hRR : (c2_rm d' (hs1.length - hs.length) (c2_sz hs1 - c2_sz hs)).frames + 1 ≤ (c2_rm (d' + 1) (hs'.length - hs0.length) (c2_sz hs' - c2_sz hs0)).frames ∧ 8 + (c2_l a + 11) + (c2_rm d' (hs1.length - hs.length) (c2_sz hs1 - c2_sz hs)).locals ≤ (c2_rm (d' + 1) (hs'.length - hs0.length) (c2_sz hs' - c2_sz hs0)).locals := ⟨by simp only [c2_rm]; omega, by simp only [c2_rm]; omega⟩
                have hff : cells + (hs1.length - hs.length) ≤ (c2_rm (d' + 1) (hs'.length - hs0.length) (c2_sz hs' - c2_sz hs0)).cells ∧ slots + (c2_sz hs1 - c2_sz hs) ≤ (c2_rm (d' + 1) (hs'.length - hs0.length) (c2_sz hs' - c2_sz hs0)).slots := by
                  obtain ⟨x1, x2⟩ := mo1
                  obtain ⟨x3, x4⟩ := mo2
                  simp only [c2_rm]
                  constructor <;> omega
                have hsum := c2_sum B r
                have run : va_Run p l e (c2_rm (d' + 1) (hs'.length - hs0.length) (c2_sz hs' - c2_sz hs0)) s m args below meth c H locs cells slots (hs1.length - hs.length) (c2_sz hs1 - c2_sz hs) (F0 m pc ls ((ys.reverse.map (c2_v B)).reverse ++ .ref (B + i) :: r.map (c2_v B))) (r.map (c2_v B)) (c2_Q dC dI cA eA B hs1 (.ref (B + i) :: ys.reverse.map (c2_v B)).toArray) (c2_A B) := by
                  rcases d2 with d2 | d2
                  · exact va_runI ⟨hx, hb, hml, hown, hts⟩ hM (cwI (c2_na a) hts hgood rfl rfl rfl (hts _ m3) (hts _ d2) (hts _ m2) rfl m5 hRR) hpre rfl (by rw [List.length_map]; exact hlen) hl.1 rfl (lv_room (by omega)) d1 hff
                  · exact va_runIN ⟨hx, hb, hml, hown, hts⟩ hM ⟨va_cnB (c2_na a) hts hgood rfl rfl rfl (hK.2 _ d2) (hts _ m3) m5 hRR, rfl, hts _ m2⟩ hpre rfl (by rw [List.length_map]; exact hlen) hl.1 rfl (lv_room (by omega)) d1 hff
                refine va_callv (a := (.ref (B + i) :: ys.reverse.map (c2_v B)).toArray) run hS (fun q _ z => z) (fun q z => z) (fun u t H1 locs1 hth hvm hpost hB1 hz hk hS1 => ?_) T hT Y
                exact go _ h ⟨Nat.le_trans hle.1 mo1.1, Nat.le_trans hle.2 mo1.2⟩ ls H1 locs1 _ _ hl (by rw [← hth]; exact hB1) hS1 (by obtain ⟨x1, x2⟩ := mo1; show _ = hs1.length; omega) (by obtain ⟨x1, x2⟩ := mo1; show _ = c2_sz hs1; omega)
            · cases h
          · cases h
        · cases h
      | 13 =>
        intro h fit
        obtain ⟨rfl, k, d1, d2⟩ := fit
        simp only [c2_do] at h
        split at h
        · rename_i i r
          split at h
          · have hsum := c2_sum B r
            refine W.objInit hx hb hown (hts _ d2) (hts _ c2_oi.1) (hts _ c2_oi.2) (g := F0 m pc ls (.ref (B + i) :: r.map (c2_v B))) rfl (by rw [hml]; exact hl.1) rfl d1 (by simp only [c2_rm]; omega) (by show 2 * 0 + ((r.map (c2_v B)).map fun v => v.category).sum + 12 ≤ 40 * (d + 3); omega) ?_
            exact go _ h hle ls H locs cells slots hl hP hS hcs hsl
          · cases h
        · cases h
      | 14 =>
        intro h fit
        obtain ⟨rfl, d1⟩ := fit
        simp only [c2_do] at h
        split at h
        · rename_i x i g r
          split at h
          · rename_i t n9 fs L c9 fx Lx hg hxx
            split at h
            · rename_i hc
              obtain ⟨hc, hi0, hin9⟩ := hc
              have hin : vp_in i n9 := fun z => by
                rcases z with z | z
                · exact absurd hi0 (by rw [Int32.le_iff_toInt_le]; rw [Int32.lt_iff_toInt_lt] at z; omega)
                · omega
              have hv : (c2_w B cA eA hs)[x]? = some (B + x, .inr (c9, fx.map (c2_v B))) := by rw [c2_wg, hxx]; rfl
              have upd : ∀ L : List (Nat × Nat), va_up (fun i => (c2_lk i L).map (fun k => B + k)) i.toNatClampNeg (some (B + x)) = fun j => (c2_lk j ((i.toNatClampNeg, x) :: L)).map (fun k => B + k) := by
                intro L
                funext j
                unfold va_up
                show _ = (if j = i.toNatClampNeg then some x else c2_lk j L).map _
                by_cases hj : j = i.toNatClampNeg
                · rw [if_pos hj, if_pos hj]; rfl
                · rw [if_neg hj, if_neg hj]
              have es : c2_sz (hs.set g (t, n9, fs, (i.toNatClampNeg, x) :: L)) = c2_sz hs := c2_ss hg (by rcases hc with ⟨rfl, -⟩ | ⟨rfl, -⟩ <;> rfl)
              have fin : ∀ (H1 : Heap) (locs1 : List Loc), va_P (dC, dI) mw_cl (c2_w B cA eA (hs.set g (t, n9, fs, (i.toNatClampNeg, x) :: L))) H1 → va_S (c2_A B) s.heap H1 locs1 → W p l e (c2_rm d (hs'.length - hs0.length) (c2_sz hs' - c2_sz hs0)) s m args below meth c H1 locs1 cells slots (MQ below (c2_Q dC dI cA eA B hs') args s (hs'.length - hs0.length) (c2_sz hs' - c2_sz hs0) (c2_A B)) (F0 m (pc + 1) ls (r.map (c2_v B))) := fun H1 locs1 hP1 hS1 => go _ h ⟨by rw [List.length_set]; omega, by rw [es]; omega⟩ ls H1 locs1 cells slots hl hP1 hS1 (by show _ = (hs.set _ _).length; rw [List.length_set]; exact hcs) (by show _ = c2_sz (hs.set _ _); rw [es]; exact hsl)
              rcases hc with ⟨rfl, rfl⟩ | ⟨rfl, rfl⟩
              · have hga : (c2_w B cA eA hs)[g]? = some (B + g, .inl (cA 12, n9, .inr (.inr (.inr (.inr (fun i => (c2_lk i L).map (fun k => B + k))))))) := by rw [c2_wg, hg]; rfl
                refine va_astq (D := (dC, dI)) (tys := mw_tys cA) hx hb hK.1 hP hD hS g 4 x 9 hga rfl hv rfl hin d1 (fun H1 locs1 hP1 _ hS1 => ?_)
                rw [upd L] at hP1
                have e9 : c2_e B cA eA (12, n9, fs, (i.toNatClampNeg, x) :: L) = .inl (cA 12, n9, .inr (.inr (.inr (.inr (fun j => (c2_lk j ((i.toNatClampNeg, x) :: L)).map (fun k => B + k)))))) := rfl
                rw [← e9, c2_ws] at hP1
                exact fin H1 locs1 hP1 hS1
              · have hga : (c2_w B cA eA hs)[g]? = some (B + g, .inl (cA 13, n9, .inr (.inr (.inr (.inr (fun i => (c2_lk i L).map (fun k => B + k))))))) := by rw [c2_wg, hg]; rfl
                refine va_astq (D := (dC, dI)) (tys := mw_tys cA) hx hb hK.1 hP hD hS g 5 x 10 hga rfl hv rfl hin d1 (fun H1 locs1 hP1 _ hS1 => ?_)
                rw [upd L] at hP1
                have e9 : c2_e B cA eA (13, n9, fs, (i.toNatClampNeg, x) :: L) = .inl (cA 13, n9, .inr (.inr (.inr (.inr (fun j => (c2_lk j ((i.toNatClampNeg, x) :: L)).map (fun k => B + k)))))) := rfl
                rw [← e9, c2_ws] at hP1
                exact fin H1 locs1 hP1 hS1
            · cases h
          · cases h
        · cases h
      | 15 =>
        intro h fit
        simp only [c2_do] at h
        split at h
        · have e9 := Option.some.inj h
          subst e9
          have ec : hs.length - hs0.length = cells := by omega
          have es : c2_sz hs - c2_sz hs0 = slots := by omega
          rw [ec, es]
          exact W.vret hx hb hr (fun t ht hW => ⟨⟨(), rfl, trivial, (show va_P (dC, dI) mw_cl (c2_w B cA eA hs) t.heap from ht ▸ hP)⟩, hS.F ht⟩) hS.2.2 fit hlk
        · cases h
      | 16 =>
        intro h fit
        obtain ⟨rfl, k, d1, d2⟩ := fit
        simp only [c2_do] at h
        split at h
        · rename_i hr4
          obtain ⟨r1, r2⟩ := hnew (c9 := (5, 23, [], [])) h rfl
          have en : c2_n (5, 23, [], []) = 23 := rfl
          rw [en] at r2
          intro T hT Y
          have hsize : H.size = B + hs.length := c2_size hP (by have := hS.1; omega) (by rw [← hT]; have := Y.heapSize; omega)
          have hpre : PreS s H (c2_P dC dI cA eA B s0 [] hs) [] := ⟨c2_bl, fun U hU hW => ⟨rfl, by rw [hU]; exact hP, by rw [hU]; exact hsize, mw_K.moved9 hW hK, hE.1.trans hW, fun q hq => by rw [hU, hS.2.1 q (by omega) (fun z => by have z : B ≤ q := z; omega)]; exact hE.2 q hq⟩⟩
          have hgood : GoodIn mw_good c2_vws := fun w hw => by
            rcases List.mem_cons.mp hw with rfl | hw
            · exact ⟨c2_vcw, good_of_word (List.mem_filter.mp c2_vcw).2⟩
            · exact ⟨hw, good_of_word (List.mem_filter.mp hw).2⟩
          have hsum := c2_sum B st
          refine va_callr (a := #[]) (va_runS (As := []) (rest := st.map (c2_v B)) ⟨hx, hb, hml, hown, hts⟩ (hV hs) ⟨callB_of 0 hts hgood rfl rfl rfl (hts _ c2_vin) (hts _ d2) (by decide +kernel) ⟨by simp only [c2_rm, c2_vrm]; omega, by simp only [c2_rm, c2_vrm]; omega⟩, hts _ c2_vst⟩ hpre rfl rfl hl.1 rfl (lv_room (by omega)) d1 ⟨r1, r2⟩) hS (fun q _ z => z) (fun q z => z) (fun u a9 t H1 locs1 hth hvm hpost hB1 hz hk hS1 => ?_) T hT Y
          obtain ⟨hB1, rfl⟩ := hB1
          exact go _ h ⟨by rw [List.length_append]; omega, by rw [c2_sa]; omega⟩ ls H1 locs1 (cells + 1) (slots + 23) hl (by rw [← hth]; exact hB1) hS1 (by show _ = (hs ++ [_]).length; rw [List.length_append]; show _ = hs.length + 1; omega) (by show _ = c2_sz (hs ++ [_]); rw [c2_sa, en]; omega)
        · cases h
      | o + 17 =>
        intro h fit
        cases h
end
