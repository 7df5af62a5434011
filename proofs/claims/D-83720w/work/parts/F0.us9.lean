/-! uses: programs -/
def orN : List Ev → Nat → Nat
  | [], _ => 0
  | e :: r, s => (if e.1.1 = s then e.2 else 0) ||| orN r s
theorem orN_t (E : List Ev) (s i : Nat) : (orN E s).testBit i = E.any fun e => decide (e.1.1 = s) && e.2.testBit i := sorry
theorem orm_t (E : List Ev) (k : Ky) (i : Nat) : (orm E k).testBit i = E.any fun e => decide (e.1 = k) && e.2.testBit i := sorry
theorem orN_m {E F : List Ev} {s : Nat} (h : ∀ k : Ky, k.1 = s → orm E k = orm F k) : orN E s = orN F s := sorry
theorem orN_seg {S E : List Ev} (h : seg S E) (s : Nat) : orN S s = orN E s := sorry
theorem orN_app (E F : List Ev) (s : Nat) : orN (E ++ F) s = orN E s ||| orN F s := sorry
theorem orN_lt : ∀ {S : List Ev} {s : Nat}, (∀ e ∈ S, e.2 < 16) → orN S s < 16 := sorry
def r0 : Nat → Int32 := fun _ => 0
section
variable (kp : Nat → Bool) (fl mk : Bool) (sy : List Sym) (pa : List (List Nat)) (bs : List Tm) (lk : List (Nat × Nat)) (rt : List (Nat × Tm))
def pbF : Nat → Nat → Nat
  | 0 => fun _ => 0
  | k + 1 => fun q => if q ∈ pa.getD k [] then orN (evP kp fl sy (pbF k) (pa.take k) (bs.getD k .null) 0 r0) q else pbF k q
def offB : Nat → List Nat
  | 0 => []
  | k + 1 => offB k ++ offP kp fl mk sy (pbF kp fl sy pa bs k) (pa.take k) lk none (bs.getD k .null) 0 r0
def ofR (k : Nat) : List Nat := match rt.find? (fun x => x.1 == k) with
  | none => []
  | some x => offP kp fl mk sy (pbF kp fl sy pa bs bs.length) pa lk (some k) x.2 0 r0
def offR : Nat → List Nat
  | 0 => []
  | k + 1 => offR k ++ ofR kp fl mk sy pa bs lk rt k
end
/-! the component looks at all -/
def gJ (h h' : mj_H) : Prop := (∀ g i j, ¬ ((g = 8 ∧ (j = 5 ∨ j = 7 ∨ j = 8)) ∨ (49 ≤ g ∧ g ≤ 57) ∨ g = 43) → h'.1 g i j = h.1 g i j) ∧ h'.2 = h.2
theorem gJ.rf (h : mj_H) : gJ h h := sorry
theorem gJ.tr {h h1 h2 : mj_H} (a : gJ h h1) (b : gJ h1 h2) : gJ h h2 := sorry
theorem gV.j {a b : Nat} {h h' : mj_H} (f : gV a b h h') : gJ h h' := sorry
theorem gJ.k {lo hi : Nat} {h h' : mj_H} (f : gJ h h') : gK lo hi h h' := sorry
section
variable {sy : List Sym} {pa : List (List Nat)} {bs : List Tm} {lk : List (Nat × Nat)} {rt : List (Nat × Tm)}
theorem u_bits {D p j q : Nat} (h6 : 6 * p + j < 144) {Q : Option mj_V → mj_H → Prop} : ∀ (T S : List Ev) (h : mj_H), UR h (S ++ T) → h.1 40 0 (6 * p + j) = nI q → q < 202 →
    mP (mj_R mg (D + 1) mq_126 (44, [(2, vI (nI (j + 1))), (1, vI (nI p)), (0, vR 8 0)], [], mj_sI h 43 0 (6 * p + j) (nI (orN (S ++ T) q)))) Q →
    mP (mj_R mg (D + 1) mq_126 (62, [(4, vI (nI S.length)), (3, vI (nI (orN S q))), (2, vI (nI j)), (1, vI (nI p)), (0, vR 8 0)], [], h)) Q := sorry
/-- what is known of the program, whatever has been looked at -/
def ugC (np : Nat) (sy : List Sym) (pa : List (List Nat)) (bs : List Tm) (lk : List (Nat × Nat)) (rt : List (Nat × Tm)) (h : mj_H) : Prop :=
  SYc h sy ∧ (∀ p, p < pa.length → h.1 39 0 p = nI (pa.getD p []).length ∧ (pa.getD p []).length ≤ 6 ∧ ∀ k q, (pa.getD p [])[k]? = some q → h.1 40 0 (6 * p + k) = nI q ∧ inSy sy q) ∧ PBc h np bs.length bs lk rt
theorem PBc.mvJ {np q : Nat} {h h' : mj_H} (a : PBc h np q bs lk rt) (f : gJ h h') : PBc h' np q bs lk rt := sorry
theorem ugC.mv {np : Nat} {h h' : mj_H} (a : ugC np sy pa bs lk rt h) (f : gJ h h') : ugC np sy pa bs lk rt h' := sorry
/-- the uses of the parameters of the first k PROCs are kept -/
def ubC (sy : List Sym) (pa : List (List Nat)) (bs : List Tm) (k : Nat) (h : mj_H) : Prop := ∀ p j q, p < k → (pa.getD p [])[j]? = some q → h.1 43 0 (6 * p + j) = nI (pbF (kpC sy) true sy pa bs k q) ∧ pbF (kpC sy) true sy pa bs k q < 16
theorem uK_of {np k : Nat} {w : Option Nat} {h : mj_H} (a : ugC np sy pa bs lk rt h) (b : ubC sy pa bs k h) (hp : pa.length ≤ 24) (hw : h.1 8 0 8 = wI w) (hw5 : ∀ p, w = some p → p ≤ 5) : uK sy (pa.take k) (pbF (kpC sy) true sy pa bs k) lk w h := sorry
theorem glo_vOK {np : Nat} {v : List Nat} (h : ∀ s ∈ v, glo np lk.length sy s) : vOK sy lk v := sorry
theorem glo_11 {np nl s : Nat} (h : glo np nl sy s) : srO sy s ≠ 11 := sorry
theorem prq_n {s : Nat} (h : prq sy s) : srO sy s ≠ 11 ∧ srO sy s ≠ 1 := sorry
theorem uS_0 {h : mj_H} : uS [] [] (mj_sI h 8 0 5 0) := sorry
end

