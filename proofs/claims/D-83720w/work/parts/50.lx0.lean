/-! LAYER 3, plain ground: answers, heaps, scanning -/
def mP (x : Option mj_O) (Q : Option mj_V → mj_H → Prop) : Prop := ∃ v h, x = some (.inl (v, h)) ∧ Q v h
theorem mP_ret {v : Option mj_V} {h : mj_H} {Q : Option mj_V → mj_H → Prop} (q : Q v h) : mP (some (.inl (v, h))) Q := sorry
theorem mP_mono {x : Option mj_O} {Q Q' : Option mj_V → mj_H → Prop} (p : mP x Q) (q : ∀ v h, Q v h → Q' v h) : mP x Q' := sorry
theorem mP_xv {x : Option mj_O} {k : mj_H → Option mj_O} {Q : Option mj_V → mj_H → Prop} (p : mP x (fun v h => v = none ∧ mP (k h) Q)) : mP (mj_xv x k) Q := sorry
theorem mP_xi {x : Option mj_O} {k : Int32 → mj_H → Option mj_O} {Q : Option mj_V → mj_H → Prop} (p : mP x (fun v h => ∃ r, v = some (.inl r) ∧ mP (k r h) Q)) : mP (mj_xi x k) Q := sorry
theorem mP_xl {x : Option mj_O} {k : Int64 → mj_H → Option mj_O} {Q : Option mj_V → mj_H → Prop} (p : mP x (fun v h => ∃ r, v = some (.inr (.inl r)) ∧ mP (k r h) Q)) : mP (mj_xl x k) Q := sorry
theorem mj_xi_ret (r : Int32) (h : mj_H) (k : Int32 → mj_H → Option mj_O) : mj_xi (some (.inl (some (vI r), h))) k = k r h := sorry
theorem mj_xv_ret (h : mj_H) (k : mj_H → Option mj_O) : mj_xv (some (.inl (none, h))) k = k h := sorry
theorem mj_xl_ret (r : Int64) (h : mj_H) (k : Int64 → mj_H → Option mj_O) : mj_xl (some (.inl (some (vL r), h))) k = k r h := sorry
theorem mI_1 (h : mj_H) (g i j g' i' j' : Nat) (v : Int32) : (mj_sI h g i j v).1 g' i' j' = if g' = g ∧ i' = i ∧ j' = j then v else h.1 g' i' j' := sorry
theorem mI_2 (h : mj_H) (g i j : Nat) (v : Int32) : (mj_sI h g i j v).2.1 = h.2.1 := sorry
theorem mI_3 (h : mj_H) (g i j : Nat) (v : Int32) : (mj_sI h g i j v).2.2 = h.2.2 := sorry
theorem mL_1 (h : mj_H) (g i j : Nat) (v : Int64) : (mj_sL h g i j v).1 = h.1 := sorry
theorem mL_2 (h : mj_H) (g i j g' i' j' : Nat) (v : Int64) : (mj_sL h g i j v).2.1 g' i' j' = if g' = g ∧ i' = i ∧ j' = j then v else h.2.1 g' i' j' := sorry
theorem mL_3 (h : mj_H) (g i j : Nat) (v : Int64) : (mj_sL h g i j v).2.2 = h.2.2 := sorry
theorem mR_1 (h : mj_H) (g i j : Nat) (v : Nat) : (mj_sR h g i j v).1 = h.1 := sorry
theorem mR_2 (h : mj_H) (g i j : Nat) (v : Nat) : (mj_sR h g i j v).2.1 = h.2.1 := sorry
theorem mR_3 (h : mj_H) (g i j g' i' j' : Nat) (v : Nat) : (mj_sR h g i j v).2.2 g' i' j' = if g' = g ∧ i' = i ∧ j' = j then v else h.2.2 g' i' j' := sorry
/-- scanning: the first place from i on, below e, at which p fails -/
def sk (p : Nat → Bool) : Nat → Nat → Nat
  | 0, i => i
  | n + 1, i => bif p i then sk p n (i + 1) else i
def skE (p : Nat → Bool) (e i : Nat) : Nat := sk p (e - i) i
theorem skE_end {p : Nat → Bool} {e i : Nat} (h : e ≤ i) : skE p e i = i := sorry
theorem skE_stop {p : Nat → Bool} {e i : Nat} (hp : p i = false) : skE p e i = i := sorry
theorem skE_step {p : Nat → Bool} {e i : Nat} (h : i < e) (hp : p i = true) : skE p e i = skE p e (i + 1) := sorry
theorem skE_ind {p : Nat → Bool} {e : Nat} {P : Nat → Nat → Prop} (hend : ∀ i, e ≤ i → P i i) (hstop : ∀ i, i < e → p i = false → P i i) (hstep : ∀ i k, i < e → p i = true → P (i + 1) k → P i k) : ∀ n i, e - i ≤ n → P i (skE p e i) := sorry
theorem skE_spec {p : Nat → Bool} {e i : Nat} (h : i ≤ e) : i ≤ skE p e i ∧ skE p e i ≤ e ∧ (skE p e i < e → p (skE p e i) = false) ∧ ∀ j, i ≤ j → j < skE p e i → p j = true := sorry
/-- signs -/
def isSm (c : Nat) : Bool := Nat.ble 97 c && Nat.ble c 122
def isCp (c : Nat) : Bool := Nat.ble 65 c && Nat.ble c 90
def isDg (c : Nat) : Bool := Nat.ble 48 c && Nat.ble c 57
def isId (c : Nat) : Bool := isSm c || (isDg c || Nat.beq c 46)
def isSp (c : Nat) : Bool := Nat.beq c 32
/-- the sign at k of a line that ends at e -/
def chE (t : Nat → Nat) (e k : Nat) : Nat := if k < e then t k else 0
/-- the text t of n signs -/
def txOK (t : Nat → Nat) (n : Nat) : Prop := n ≤ 3000 ∧ ∀ j, j < n → t j = 10 ∨ (32 ≤ t j ∧ t j ≤ 126)
def txG (t : Nat → Nat) (n k : Nat) : Nat := if k < n then t k else 10
theorem in_nI {k N : Nat} (hk : k < 2 ^ 31) : mj_in (nI k) N ↔ k < N := sorry
theorem k_0 : (0 : Int32) = nI 0 := sorry
theorem k_1 : (1 : Int32) = nI 1 := sorry
theorem k_2 : (2 : Int32) = nI 2 := sorry
theorem k_3 : (3 : Int32) = nI 3 := sorry
theorem k_4 : (4 : Int32) = nI 4 := sorry
theorem k_5 : (5 : Int32) = nI 5 := sorry
theorem k_6 : (6 : Int32) = nI 6 := sorry
theorem k_7 : (7 : Int32) = nI 7 := sorry
theorem k_8 : (8 : Int32) = nI 8 := sorry
theorem k_9 : (9 : Int32) = nI 9 := sorry
theorem k_10 : (10 : Int32) = nI 10 := sorry
theorem k_11 : (11 : Int32) = nI 11 := sorry
theorem k_12 : (12 : Int32) = nI 12 := sorry
theorem k_13 : (13 : Int32) = nI 13 := sorry
theorem k_14 : (14 : Int32) = nI 14 := sorry
theorem k_15 : (15 : Int32) = nI 15 := sorry
theorem k_16 : (16 : Int32) = nI 16 := sorry
theorem k_17 : (17 : Int32) = nI 17 := sorry
theorem k_18 : (18 : Int32) = nI 18 := sorry
theorem k_19 : (19 : Int32) = nI 19 := sorry
theorem k_20 : (20 : Int32) = nI 20 := sorry
theorem k_21 : (21 : Int32) = nI 21 := sorry
theorem k_22 : (22 : Int32) = nI 22 := sorry
theorem k_23 : (23 : Int32) = nI 23 := sorry
theorem k_24 : (24 : Int32) = nI 24 := sorry
theorem k_25 : (25 : Int32) = nI 25 := sorry
theorem k_26 : (26 : Int32) = nI 26 := sorry
theorem k_27 : (27 : Int32) = nI 27 := sorry
theorem k_28 : (28 : Int32) = nI 28 := sorry
theorem k_29 : (29 : Int32) = nI 29 := sorry
theorem k_30 : (30 : Int32) = nI 30 := sorry
theorem k_31 : (31 : Int32) = nI 31 := sorry
theorem k_32 : (32 : Int32) = nI 32 := sorry
theorem k_33 : (33 : Int32) = nI 33 := sorry
theorem k_34 : (34 : Int32) = nI 34 := sorry
theorem k_35 : (35 : Int32) = nI 35 := sorry
theorem k_36 : (36 : Int32) = nI 36 := sorry
theorem k_37 : (37 : Int32) = nI 37 := sorry
theorem k_38 : (38 : Int32) = nI 38 := sorry
theorem k_39 : (39 : Int32) = nI 39 := sorry
theorem k_40 : (40 : Int32) = nI 40 := sorry
theorem k_41 : (41 : Int32) = nI 41 := sorry
theorem k_42 : (42 : Int32) = nI 42 := sorry
theorem k_43 : (43 : Int32) = nI 43 := sorry
theorem k_44 : (44 : Int32) = nI 44 := sorry
theorem k_45 : (45 : Int32) = nI 45 := sorry
theorem k_46 : (46 : Int32) = nI 46 := sorry
theorem k_47 : (47 : Int32) = nI 47 := sorry
theorem k_48 : (48 : Int32) = nI 48 := sorry
theorem k_49 : (49 : Int32) = nI 49 := sorry
theorem k_50 : (50 : Int32) = nI 50 := sorry
theorem k_51 : (51 : Int32) = nI 51 := sorry
theorem k_52 : (52 : Int32) = nI 52 := sorry
theorem k_53 : (53 : Int32) = nI 53 := sorry
theorem k_54 : (54 : Int32) = nI 54 := sorry
theorem k_55 : (55 : Int32) = nI 55 := sorry
theorem k_56 : (56 : Int32) = nI 56 := sorry
theorem k_57 : (57 : Int32) = nI 57 := sorry
theorem k_58 : (58 : Int32) = nI 58 := sorry
theorem k_59 : (59 : Int32) = nI 59 := sorry
theorem k_60 : (60 : Int32) = nI 60 := sorry
theorem k_61 : (61 : Int32) = nI 61 := sorry
theorem k_62 : (62 : Int32) = nI 62 := sorry
theorem k_63 : (63 : Int32) = nI 63 := sorry
theorem k_64 : (64 : Int32) = nI 64 := sorry
theorem k_65 : (65 : Int32) = nI 65 := sorry
theorem k_66 : (66 : Int32) = nI 66 := sorry
theorem k_67 : (67 : Int32) = nI 67 := sorry
theorem k_68 : (68 : Int32) = nI 68 := sorry
theorem k_69 : (69 : Int32) = nI 69 := sorry
theorem k_70 : (70 : Int32) = nI 70 := sorry
theorem k_71 : (71 : Int32) = nI 71 := sorry
theorem k_72 : (72 : Int32) = nI 72 := sorry
theorem k_73 : (73 : Int32) = nI 73 := sorry
theorem k_74 : (74 : Int32) = nI 74 := sorry
theorem k_75 : (75 : Int32) = nI 75 := sorry
theorem k_76 : (76 : Int32) = nI 76 := sorry
theorem k_77 : (77 : Int32) = nI 77 := sorry
theorem k_78 : (78 : Int32) = nI 78 := sorry
theorem k_79 : (79 : Int32) = nI 79 := sorry
theorem k_80 : (80 : Int32) = nI 80 := sorry
theorem k_81 : (81 : Int32) = nI 81 := sorry
theorem k_82 : (82 : Int32) = nI 82 := sorry
theorem k_83 : (83 : Int32) = nI 83 := sorry
theorem k_84 : (84 : Int32) = nI 84 := sorry
theorem k_85 : (85 : Int32) = nI 85 := sorry
theorem k_86 : (86 : Int32) = nI 86 := sorry
theorem k_87 : (87 : Int32) = nI 87 := sorry
theorem k_88 : (88 : Int32) = nI 88 := sorry
theorem k_89 : (89 : Int32) = nI 89 := sorry
theorem k_90 : (90 : Int32) = nI 90 := sorry
theorem k_91 : (91 : Int32) = nI 91 := sorry
theorem k_92 : (92 : Int32) = nI 92 := sorry
theorem k_93 : (93 : Int32) = nI 93 := sorry
theorem k_94 : (94 : Int32) = nI 94 := sorry
theorem k_95 : (95 : Int32) = nI 95 := sorry
theorem k_96 : (96 : Int32) = nI 96 := sorry
theorem k_97 : (97 : Int32) = nI 97 := sorry
theorem k_98 : (98 : Int32) = nI 98 := sorry
theorem k_99 : (99 : Int32) = nI 99 := sorry
theorem k_100 : (100 : Int32) = nI 100 := sorry
theorem k_101 : (101 : Int32) = nI 101 := sorry
theorem k_102 : (102 : Int32) = nI 102 := sorry
theorem k_103 : (103 : Int32) = nI 103 := sorry
theorem k_104 : (104 : Int32) = nI 104 := sorry
theorem k_105 : (105 : Int32) = nI 105 := sorry
theorem k_106 : (106 : Int32) = nI 106 := sorry
theorem k_107 : (107 : Int32) = nI 107 := sorry
theorem k_108 : (108 : Int32) = nI 108 := sorry
theorem k_109 : (109 : Int32) = nI 109 := sorry
theorem k_110 : (110 : Int32) = nI 110 := sorry
theorem k_111 : (111 : Int32) = nI 111 := sorry
theorem k_112 : (112 : Int32) = nI 112 := sorry
theorem k_113 : (113 : Int32) = nI 113 := sorry
theorem k_114 : (114 : Int32) = nI 114 := sorry
theorem k_115 : (115 : Int32) = nI 115 := sorry
theorem k_116 : (116 : Int32) = nI 116 := sorry
theorem k_117 : (117 : Int32) = nI 117 := sorry
theorem k_118 : (118 : Int32) = nI 118 := sorry
theorem k_119 : (119 : Int32) = nI 119 := sorry
theorem k_120 : (120 : Int32) = nI 120 := sorry
theorem k_121 : (121 : Int32) = nI 121 := sorry
theorem k_122 : (122 : Int32) = nI 122 := sorry
theorem k_123 : (123 : Int32) = nI 123 := sorry
theorem k_124 : (124 : Int32) = nI 124 := sorry
theorem k_125 : (125 : Int32) = nI 125 := sorry
theorem k_126 : (126 : Int32) = nI 126 := sorry
theorem k_127 : (127 : Int32) = nI 127 := sorry
theorem k_128 : (128 : Int32) = nI 128 := sorry
theorem k_129 : (129 : Int32) = nI 129 := sorry
theorem k_130 : (130 : Int32) = nI 130 := sorry
theorem k_200 : (200 : Int32) = nI 200 := sorry
theorem k_202 : (202 : Int32) = nI 202 := sorry
theorem k_255 : (255 : Int32) = nI 255 := sorry
theorem k_256 : (256 : Int32) = nI 256 := sorry
theorem k_260 : (260 : Int32) = nI 260 := sorry
theorem k_300 : (300 : Int32) = nI 300 := sorry
theorem k_301 : (301 : Int32) = nI 301 := sorry
theorem k_302 : (302 : Int32) = nI 302 := sorry
theorem k_303 : (303 : Int32) = nI 303 := sorry
theorem k_304 : (304 : Int32) = nI 304 := sorry
theorem k_305 : (305 : Int32) = nI 305 := sorry
theorem k_306 : (306 : Int32) = nI 306 := sorry
theorem k_307 : (307 : Int32) = nI 307 := sorry
theorem k_1000 : (1000 : Int32) = nI 1000 := sorry
theorem k_1100 : (1100 : Int32) = nI 1100 := sorry
theorem k_2048 : (2048 : Int32) = nI 2048 := sorry
theorem k_3000 : (3000 : Int32) = nI 3000 := sorry
theorem k_3100 : (3100 : Int32) = nI 3100 := sorry
theorem k_4000 : (4000 : Int32) = nI 4000 := sorry
theorem k_4016 : (4016 : Int32) = nI 4016 := sorry
theorem k_5000 : (5000 : Int32) = nI 5000 := sorry
theorem k_6000 : (6000 : Int32) = nI 6000 := sorry
theorem k_7000 : (7000 : Int32) = nI 7000 := sorry
theorem k_12000 : (12000 : Int32) = nI 12000 := sorry
theorem k_12124 : (12124 : Int32) = nI 12124 := sorry
theorem k_13200 : (13200 : Int32) = nI 13200 := sorry
theorem k_14909 : (14909 : Int32) = nI 14909 := sorry
theorem k_15420 : (15420 : Int32) = nI 15420 := sorry
theorem k_15421 : (15421 : Int32) = nI 15421 := sorry
theorem k_15422 : (15422 : Int32) = nI 15422 := sorry
theorem k_15933 : (15933 : Int32) = nI 15933 := sorry
theorem k_15934 : (15934 : Int32) = nI 15934 := sorry
theorem k_20000 : (20000 : Int32) = nI 20000 := sorry
theorem k_23599 : (23599 : Int32) = nI 23599 := sorry
theorem k_24096 : (24096 : Int32) = nI 24096 := sorry
theorem k_36000 : (36000 : Int32) = nI 36000 := sorry
theorem k_60000 : (60000 : Int32) = nI 60000 := sorry
theorem k_100000 : (100000 : Int32) = nI 100000 := sorry
theorem k_1000000 : (1000000 : Int32) = nI 1000000 := sorry
theorem k_1048576 : (1048576 : Int32) = nI 1048576 := sorry
theorem k_2147483647 : (2147483647 : Int32) = nI 2147483647 := sorry
