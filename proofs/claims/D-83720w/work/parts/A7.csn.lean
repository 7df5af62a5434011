/-! the component reads as the specification says -/
def hoH (h : mj_H) (x nv : Nat) (y : Int64) (z : Int32) : mj_H := mj_sI (mj_sI (mj_sI (mj_sR (mj_sL (mj_sL h 31 0 x y) 32 0 x 0) 33 0 x 2) 34 0 x z) 47 0 nv (nI x)) 5 0 6 (nI (nv + 1))
theorem hoH_1 (h : mj_H) (x nv : Nat) (y : Int64) (z : Int32) (g i j : Nat) (c : ¬ (g = 34 ∨ g = 47 ∨ (g = 5 ∧ j = 6))) : (hoH h x nv y z).1 g i j = h.1 g i j := sorry
theorem hoH_Z (h : mj_H) (x nv : Nat) (y : Int64) (z : Int32) : gZ h (hoH h x nv y z) := sorry
theorem hoH_r (h : mj_H) (x nv : Nat) (y : Int64) (z : Int32) : (hoH h x nv y z).2.1 31 0 x = y ∧ (hoH h x nv y z).2.1 32 0 x = 0 ∧ (hoH h x nv y z).2.2 33 0 x = 2 ∧ (hoH h x nv y z).1 34 0 x = z ∧ (hoH h x nv y z).1 47 0 nv = nI x ∧ (hoH h x nv y z).1 5 0 6 = nI (nv + 1) := sorry
theorem hoH_o (h : mj_H) (x nv : Nat) (y : Int64) (z : Int32) (j k : Nat) (hj : j ≠ x) (hk : k ≠ nv) : (hoH h x nv y z).2.1 31 0 j = h.2.1 31 0 j ∧ (hoH h x nv y z).2.1 32 0 j = h.2.1 32 0 j ∧ (hoH h x nv y z).2.2 33 0 j = h.2.2 33 0 j ∧ (hoH h x nv y z).1 34 0 j = h.1 34 0 j ∧ (hoH h x nv y z).1 47 0 k = h.1 47 0 k := sorry
theorem CT.z {t : Nat → Nat} {n : Nat} {h h' : mj_H} (a : CT t n h) (z : gZ h h') : CT t n h' := sorry
theorem cG.z {h h' : mj_H} (a : cG h h') : gZ h h' := sorry
theorem q_read {t : Nat → Nat} {n d : Nat} {h : mj_H} (hT : CT t n h) : mP (mj_R mg (d + 1271) mq_91 (0, [(0, vR 5 0)], [], h)) (fun v h' => pRd t n h v h' (prgS (txL t n))) := sorry
