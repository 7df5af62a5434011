/-! shared by what follows -/
/-- how long a row is -/
def tmN : Tm → Nat
  | .elem _ r => tmN r + 1
  | _ => 0
theorem nI_mul (a b : Nat) : nI a * nI b = nI (a * b) := sorry
theorem mI_same {h : mj_H} {g i j : Nat} {v : Int32} : (mj_sI h g i j v).1 g i j = v := sorry
