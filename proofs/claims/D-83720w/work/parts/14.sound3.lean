/-! SOUNDNESS, third part: a frame of the real machine, and the operations one by one -/
def mw_tys (cA : Nat → ClassId) : List (ClassId × FieldType) := [(cA 0, .int), (cA 1, .boolean), (cA 2, .byte), (cA 3, .long), (cA 12, .object "LinkedCores$Link"), (cA 13, .object "LinkedCores$Core"), (cA 16, .object "LinkedCores$Word"), (cA 17, .object "LinkedCores$What"), (cA 18, .object "LinkedCores$Sort")]
def mw_A (ad : Nat → Nat → Nat) : Nat → Prop := fun q => ∃ z ∈ mw_all, q = ad z.1 z.2
def mw_nst : List Cond := lw_tbl.filter (fun w => match w with
  | .fieldLinkNest .. => true
  | .methodLinkNest .. => true
  | _ => false)
def mw_K (dC : Nat → ClassId) (dI : Nat → Nat → Nat) (cA : Nat → ClassId) (U : State) : Prop := va_K (dC, dI) mw_cl (mw_tys cA) U ∧ ∀ w ∈ mw_nst, va_Nw w U
def mw_cx (dC : Nat → ClassId) (dI : Nat → Nat → Nat) (cA : Nat → ClassId) (p : Program) (s : State) (m : MethodId) (args : Array Value) (meth : Method) (c : Code) (mi : Nat) : Prop :=
  p.tables.exec = Jvm.exec ∧ c.code = mw_b mi ∧ c.maxLocals = mw_l mi ∧ meth.sig.returnType = mw_r mi ∧ meth.locks = false ∧ s.vm.findClass (mw_on (mw_mc mi)) = some m.cls ∧ (∀ w ∈ mw_good, w.before args s = true) ∧ mw_K dC dI cA s
def mw_vd (v : mj_V) : Prop := match v with
  | .inr (.inr q) => q ∈ mw_val
  | _ => True
def mw_hv (h : mj_H) : Prop := ∀ g k j, ((mt_grp g).1 = 6 → 0 < h.2.2 g k j → ((mt_grp g).2, h.2.2 g k j - 1) ∈ mw_val) ∧ (0 < h.2.2 6 0 12 → (16, h.2.2 6 0 12 - 1) ∈ mw_val)
def mw_okf (f : mj_F) : Prop := (∀ q ∈ f.2.1, mw_vd q.2) ∧ (∀ v ∈ f.2.2.1, mw_vd v) ∧ mw_hv f.2.2.2
section Sound
variable {p : Program} {l : Launch} {e : Env} {R : Room} {s : State} {m : MethodId} {args : Array Value} {below : List Frame} {meth : Method} {c : Code} {Q : State → Prop} {dC : Nat → ClassId} {dI : Nat → Nat → Nat} {ad : Nat → Nat → Nat} {cA : Nat → ClassId} {mi : Nat}
/-- the real machine goes on from a frame of the small one, in any heap that holds its world -/
def mw_W (p : Program) (l : Launch) (e : Env) (R : Room) (s : State) (m : MethodId) (args : Array Value) (below : List Frame) (meth : Method) (c : Code) (Q : State → Prop) (dC : Nat → ClassId) (dI : Nat → Nat → Nat) (ad : Nat → Nat → Nat) (cA : Nat → ClassId) (mi : Nat) (f : mj_F) : Prop :=
  mw_okf f → ∀ (ls : Array Slot) (H : Heap) (locs : List Loc), lv_has ls (mw_l mi) (f.2.1.map (fun q => (q.1, mw_v ad q.2))) → va_P (dC, dI) mw_cl (mw_ws ad cA f.2.2.2) H → va_S (mw_A ad) s.heap H locs → W p l e R s m args below meth c H locs 0 0 Q (F0 m f.1 ls (f.2.2.1.map (mw_v ad)))
theorem mw_o_load (X : mw_cx dC dI cA p s m args meth c mi) {pc n a b c9 e9 len : Nat} {v9 : Int32} {i : Instr} {lv : mj_L} {st : List mj_V} {h : mj_H} {x : mj_V} (hd : decode (mw_b mi) pc = .ok (i, len)) (hf : mw_fit mi pc i len (0, n, a, b, c9, e9, v9) = true) (hg : mj_get a lv = some x) (hk : Nat.beq (mj_kd x) b = true)
    (kk : mw_W p l e R s m args below meth c Q dC dI ad cA mi (n, lv, x :: st, h)) : mw_W p l e R s m args below meth c Q dC dI ad cA mi (pc, lv, st, h) := by
  intro hok ls H locs hl hP hS
  obtain ⟨hx, hb, -, -, -, -, -, -⟩ := X
  have hm := mj_get_mem hg
  have hat : ls[a]? = some (.val (mw_v ad x)) := hl.2.2 (a, mw_v ad x) (List.mem_map.mpr ⟨(a, x), hm, rfl⟩)
  have kk := kk ⟨hok.1, fun v hv => by rcases List.mem_cons.mp hv with rfl | hv; exact hok.1 _ hm; exact hok.2.1 v hv, hok.2.2⟩ ls H locs hl hP hS
  have hkb : mj_kd x = b := Nat.eq_of_beq_eq_true hk
  simp only [mw_fit] at hf
  split at hf <;> simp only [Bool.and_eq_true, Nat.beq_eq, Bool.false_eq_true] at hf
  · obtain ⟨⟨⟨h1, h2⟩, h3⟩, h4⟩ := hf
    subst h1 h2 h3 h4
    rcases x with x | x | x <;> simp [mj_kd] at hkb
    exact lv_iload_n hx hb hd rfl hat kk
  · obtain ⟨⟨⟨h1, h2⟩, h3⟩, h4⟩ := hf
    subst h1 h2 h3 h4
    rcases x with x | x | x <;> simp [mj_kd] at hkb
    exact lv_lload_n hx hb hd rfl hat kk
  · obtain ⟨⟨⟨h1, h2⟩, h3⟩, h4⟩ := hf
    subst h1 h2 h3 h4
    rcases x with x | x | x <;> simp [mj_kd] at hkb
    exact lv_aload_n hx hb hd rfl hat kk
  · obtain ⟨⟨⟨h1, h2⟩, h3⟩, h4⟩ := hf
    subst h1 h2 h3 h4
    rcases x with x | x | x <;> simp [mj_kd] at hkb
    exact lv_iload hx hb hd hat kk
  · obtain ⟨⟨⟨h1, h2⟩, h3⟩, h4⟩ := hf
    subst h1 h2 h3 h4
    rcases x with x | x | x <;> simp [mj_kd] at hkb
    exact lv_lload hx hb hd hat kk
  · obtain ⟨⟨⟨h1, h2⟩, h3⟩, h4⟩ := hf
    subst h1 h2 h3 h4
    rcases x with x | x | x <;> simp [mj_kd] at hkb
    exact lv_aload hx hb hd hat kk
end Sound
