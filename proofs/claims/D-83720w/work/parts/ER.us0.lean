/-! uses: events, rows -/
abbrev Ky := Nat × Bool × Int32
abbrev Ev := Ky × Nat
def arrS (k : Nat) : Bool := sArr k || k == 9
def kepS (k : Nat) : Bool := k == 2 || k == 4 || sArr k || sChn k || k == 9
def orm : List Ev → Ky → Nat
  | [], _ => 0
  | e :: r, k => (if e.1 = k then e.2 else 0) ||| orm r k
def kys (E : List Ev) : List Ky := E.map (·.1)
/-- S is E, joined -/
def seg (S E : List Ev) : Prop := (kys S).Nodup ∧ (∀ k, k ∈ kys S ↔ k ∈ kys E) ∧ ∀ k, orm S k = orm E k
def useL : List Ev → Ev → List Ev
  | [], e => [e]
  | r :: S, e => if r.1 = e.1 then (r.1, r.2 ||| e.2) :: S else r :: useL S e
theorem orm_app (E F : List Ev) (k : Ky) : orm (E ++ F) k = orm E k ||| orm F k := sorry
theorem kys_app (E F : List Ev) : kys (E ++ F) = kys E ++ kys F := sorry
theorem useL_k (S : List Ev) (e : Ev) : ∀ k, k ∈ kys (useL S e) ↔ k ∈ kys S ∨ k = e.1 := sorry
theorem useL_nd {S : List Ev} (e : Ev) (h : (kys S).Nodup) : (kys (useL S e)).Nodup := sorry
theorem useL_o (S : List Ev) (e : Ev) (k : Ky) : orm (useL S e) k = orm (S ++ [e]) k := sorry
theorem useL_len (S : List Ev) (e : Ev) : (useL S e).length ≤ S.length + 1 ∧ S.length ≤ (useL S e).length := sorry
theorem seg.nil : seg [] [] := sorry
theorem seg.use {S E : List Ev} (h : seg S E) (e : Ev) : seg (useL S e) (E ++ [e]) := sorry
theorem seg.cg {S E F : List Ev} (h : seg S E) (hk : ∀ k, k ∈ kys E ↔ k ∈ kys F) (ho : ∀ k, orm E k = orm F k) : seg S F := sorry
theorem seg.fold {S E : List Ev} (h : seg S E) : ∀ (T : List Ev), seg (T.foldl useL S) (E ++ T) := sorry
theorem seg.join {S E T F : List Ev} (h : seg S E) (g : seg T F) : seg (T.foldl useL S) (E ++ F) := sorry
def flN (p : Nat → Bool) (E : List Ev) : List Ev := E.filter fun e => p e.1.1
theorem flN_k (p : Nat → Bool) (E : List Ev) (k : Ky) : k ∈ kys (flN p E) ↔ k ∈ kys E ∧ p k.1 = true := sorry
theorem flN_o (p : Nat → Bool) (E : List Ev) (k : Ky) : orm (flN p E) k = if p k.1 then orm E k else 0 := sorry
theorem flN_nd (p : Nat → Bool) {E : List Ev} (h : (kys E).Nodup) : (kys (flN p E)).Nodup := sorry
theorem seg.flt {S E : List Ev} (h : seg S E) (p : Nat → Bool) : seg (flN p S) (flN p E) := sorry
/-! how many rows -/
def ded : List Ky → List Ky
  | [] => []
  | k :: r => if k ∈ ded r then ded r else k :: ded r
def nk (E : List Ev) : Nat := (ded (kys E)).length
theorem ded_mem : ∀ (L : List Ky) (k : Ky), k ∈ ded L ↔ k ∈ L := sorry
theorem ded_nd : ∀ (L : List Ky), (ded L).Nodup := sorry
theorem nd_len : ∀ (K L : List Ky), K.Nodup → (∀ k, k ∈ K → k ∈ L) → K.length ≤ L.length := sorry
theorem seg.len {S E : List Ev} (h : seg S E) : S.length = nk E := sorry
theorem nk_le {E F : List Ev} (h : ∀ k, k ∈ kys E → k ∈ kys F) : nk E ≤ nk F := sorry
theorem nk_app (E F : List Ev) : nk (E ++ F) ≤ nk E + nk F := sorry
/-! clashes -/
def wrt (a b : Nat) : Bool := (a &&& 2 != 0 && b &&& 3 != 0) || (b &&& 2 != 0 && a &&& 1 != 0)
def mcl (a b : Nat) : Bool := wrt a b || a &&& b &&& 12 != 0
def mtK (k l : Ky) : Bool := k.1 == l.1 && (k.2.1 || l.2.1 || k.2.2 == l.2.2)
def cls (g : Nat → Bool) (E F : List Ev) : Bool := E.any fun a => F.any fun b => g a.1.1 && mtK a.1 b.1 && mcl a.2 b.2
theorem bne_or (a b : Nat) : (a ||| b != 0) = (a != 0 || b != 0) := sorry
theorem mcl_l (a b c : Nat) : mcl (a ||| b) c = (mcl a c || mcl b c) := sorry
theorem mcl_r (a b c : Nat) : mcl a (b ||| c) = (mcl a b || mcl a c) := sorry
theorem mcl_0 (b : Nat) : mcl 0 b = false := sorry
theorem mcl_00 (a : Nat) : mcl a 0 = false := sorry
theorem orm_ex_l : ∀ (E : List Ev) (k : Ky) (b : Nat), mcl (orm E k) b = true ↔ ∃ e, e ∈ E ∧ e.1 = k ∧ mcl e.2 b = true := sorry
theorem orm_ex_r : ∀ (E : List Ev) (k : Ky) (a : Nat), mcl a (orm E k) = true ↔ ∃ e, e ∈ E ∧ e.1 = k ∧ mcl a e.2 = true := sorry
theorem cls_iff {g : Nat → Bool} {E F : List Ev} : cls g E F = true ↔ ∃ k l, g k.1 = true ∧ mtK k l = true ∧ mcl (orm E k) (orm F l) = true := sorry
theorem cls_cg {g : Nat → Bool} {E F E' F' : List Ev} (h1 : ∀ k, orm E k = orm E' k) (h2 : ∀ k, orm F k = orm F' k) : cls g E F = cls g E' F' := sorry
