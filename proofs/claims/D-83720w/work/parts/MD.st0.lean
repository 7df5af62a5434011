/-! THE LAW's START: positions of words in the tables and in the premises (printed by tools/gen_st0.py) -/
def st_T : List Cond := flatC (Jvm.Cond.and given_1 narrow_1)
theorem st_use {L : List Cond} {p : Nat} {w : Cond} {args : Array Value} {s : State} (h : ∀ w ∈ L, w.before args s = true) (e : L[p]? = some w) : w.before args s = true := h _ (List.mem_of_getElem? e)
theorem st_n16 : (mw_en 16).length = 23 := by decide +kernel
theorem st_x16 : ∀ i, i < 23 → st_T[([192, 156, 197, 202, 207, 212, 124, 217, 58, 53, 46, 39, 141, 84, 87, 76, 102, 106, 175, 186, 171, 179, 183] : List Nat).getD i 0]? = some (Cond.exactly (.static (mw_ec 16) ((mw_en 16).getD i "") (mw_ed 16)) (mw_ec 16)) := by decide +kernel
theorem st_o16 : ∀ i, i < 23 → st_T[([193, 157, 198, 203, 208, 213, 125, 218, 59, 54, 47, 40, 142, 85, 88, 77, 103, 107, 176, 187, 172, 180, 184] : List Nat).getD i 0]? = some (Cond.eq (.field (.static (mw_ec 16) ((mw_en 16).getD i "") (mw_ed 16)) "java/lang/Enum" "ordinal" "I") (.int (nI i))) := by decide +kernel
theorem st_l16 : ∀ i, i < 23 → lw_tbl[([3283, 1385, 3284, 3285, 3286, 3287, 1350, 3288, 1189, 1185, 1174, 1111, 1368, 1270, 1272, 1260, 1315, 1317, 1419, 1433, 1417, 1425, 1427] : List Nat).getD i 0]? = some (Cond.laysStatic (mw_ec 16) ((mw_en 16).getD i "") (mw_ed 16)) := by decide +kernel
theorem st_i16 : Cond.initialized (mw_ec 16) ∈ lw_tbl := mw_tm1 (List.mem_of_getElem? (i := 7) rfl)
theorem st_n17 : (mw_en 17).length = 22 := by decide +kernel
theorem st_x17 : ∀ i, i < 22 → st_T[([128, 131, 115, 118, 121, 73, 134, 138, 144, 148, 152, 161, 165, 168, 112, 62, 90, 92, 94, 110, 80, 82] : List Nat).getD i 0]? = some (Cond.exactly (.static (mw_ec 17) ((mw_en 17).getD i "") (mw_ed 17)) (mw_ec 17)) := by decide +kernel
theorem st_o17 : ∀ i, i < 22 → st_T[([129, 132, 116, 119, 122, 74, 135, 139, 145, 149, 153, 162, 166, 169, 113, 63, 91, 93, 95, 111, 81, 83] : List Nat).getD i 0]? = some (Cond.eq (.field (.static (mw_ec 17) ((mw_en 17).getD i "") (mw_ed 17)) "java/lang/Enum" "ordinal" "I") (.int (nI i))) := by decide +kernel
theorem st_l17 : ∀ i, i < 22 → lw_tbl[([1352, 1354, 1334, 1336, 1338, 1246, 1360, 1366, 1374, 1376, 1383, 1391, 1401, 1407, 1332, 1216, 1274, 1284, 1289, 1319, 1262, 1264] : List Nat).getD i 0]? = some (Cond.laysStatic (mw_ec 17) ((mw_en 17).getD i "") (mw_ed 17)) := by decide +kernel
theorem st_i17 : Cond.initialized (mw_ec 17) ∈ lw_tbl := mw_tm1 (List.mem_of_getElem? (i := 26) rfl)
theorem st_n18 : (mw_en 18).length = 12 := by decide +kernel
theorem st_x18 : ∀ i, i < 12 → st_T[([42, 37, 71, 49, 44, 69, 51, 67, 56, 64, 96, 99] : List Nat).getD i 0]? = some (Cond.exactly (.static (mw_ec 18) ((mw_en 18).getD i "") (mw_ed 18)) (mw_ec 18)) := by decide +kernel
theorem st_o18 : ∀ i, i < 12 → st_T[([43, 38, 72, 50, 45, 70, 52, 68, 57, 65, 97, 100] : List Nat).getD i 0]? = some (Cond.eq (.field (.static (mw_ec 18) ((mw_en 18).getD i "") (mw_ed 18)) "java/lang/Enum" "ordinal" "I") (.int (nI i))) := by decide +kernel
theorem st_l18 : ∀ i, i < 12 → lw_tbl[([1138, 1038, 1228, 1176, 1172, 1226, 1183, 1224, 1187, 1222, 1303, 1305] : List Nat).getD i 0]? = some (Cond.laysStatic (mw_ec 18) ((mw_en 18).getD i "") (mw_ed 18)) := by decide +kernel
theorem st_i18 : Cond.initialized (mw_ec 18) ∈ lw_tbl := mw_tm1 (List.mem_of_getElem? (i := 25) rfl)
def st_tm (k : Nat) : Term := bif Nat.ble k 22 then .string "LinkedCores$Word" (([96, 100, 101, 102, 103, 104, 105, 106, 107, 108, 109, 110, 111, 112, 113, 114, 115, 116, 117, 118, 119, 120, 121] : List Nat).getD k 0) else .string "LinkedCoresModel" (([562, 568, 380, 392] : List Nat).getD (k - 23) 0)
theorem st_tt : ∀ i, i < 23 → st_T[([194, 158, 199, 204, 209, 214, 126, 219, 60, 55, 48, 41, 143, 86, 89, 78, 104, 108, 177, 188, 173, 181, 185] : List Nat).getD i 0]? = some (Cond.eq (.field (.static (mw_ec 16) ((mw_en 16).getD i "") (mw_ed 16)) "LinkedCores$Word" "text" "Ljava/lang/String;") (st_tm i)) := by decide +kernel
theorem st_1 : ∀ k, k < 27 → st_T[([627, 575, 634, 641, 648, 654, 560, 663, 516, 508, 501, 493, 568, 530, 538, 523, 547, 554, 590, 614, 582, 600, 608, 340, 351, 360, 473] : List Nat).getD k 0]? = some (Cond.exactly (st_tm k) "java/lang/String") := by decide +kernel
theorem st_2 : ∀ k, k < 27 → st_T[([628, 576, 635, 642, 649, 655, 561, 664, 517, 509, 502, 494, 569, 531, 539, 524, 548, 555, 591, 615, 583, 601, 609, 341, 352, 361, 474] : List Nat).getD k 0]? = some (Cond.eq (.field (st_tm k) "java/lang/String" "coder" "B") (.int 0)) := by decide +kernel
theorem st_3 : ∀ k, k < 27 → st_T[([629, 577, 636, 643, 650, 656, 562, 665, 518, 510, 503, 495, 570, 532, 540, 525, 549, 556, 592, 616, 584, 602, 610, 342, 353, 362, 475] : List Nat).getD k 0]? = some (Cond.arrayOf (.field (st_tm k) "java/lang/String" "value" "[B") .byte) := by decide +kernel
theorem st_4 : ∀ k, k < 27 → st_T[([630, 578, 637, 644, 651, 657, 563, 666, 519, 511, 504, 496, 571, 533, 541, 526, 550, 557, 593, 617, 585, 603, 611, 343, 354, 363, 476] : List Nat).getD k 0]? = some (Cond.eq (.length (.field (st_tm k) "java/lang/String" "value" "[B")) (.int (Int32.ofNat (mt_sln k)))) := by decide +kernel
theorem st_5 : ∀ k, k < 27 → ∀ j, j < mt_sln k → st_T[(([[631, 632, 633], [579, 580, 581], [638, 639, 640], [645, 646, 647], [652, 653], [658, 659, 660, 661, 662], [564, 565, 566, 567], [667, 668, 669, 670], [520, 521, 522], [512, 513, 514, 515], [505, 506, 507], [497, 498, 499, 500], [572, 573, 574], [534, 535, 536, 537], [542, 543, 544, 545, 546], [527, 528, 529], [551, 552, 553], [558, 559], [594, 595, 596, 597, 598, 599], [618, 619, 620, 621, 622, 623, 624, 625, 626], [586, 587, 588, 589], [604, 605, 606, 607], [612, 613], [344, 345, 346, 347, 348, 349], [355, 356, 357, 358], [364, 365, 366, 367, 368, 369, 370, 371, 372, 373, 374, 375, 376, 377, 378, 379, 380, 381, 382, 383, 384, 385, 386, 387, 388, 389, 390, 391, 392, 393, 394, 395, 396, 397, 398, 399, 400, 401, 402, 403, 404, 405, 406, 407, 408, 409, 410, 411, 412, 413, 414, 415, 416, 417, 418, 419, 420, 421, 422, 423, 424, 425, 426, 427, 428, 429, 430, 431, 432, 433, 434, 435, 436, 437, 438, 439, 440, 441, 442, 443, 444, 445, 446, 447, 448, 449, 450, 451, 452, 453, 454, 455, 456, 457, 458, 459, 460, 461, 462, 463, 464, 465, 466, 467, 468, 469, 470, 471, 472], [477, 478, 479, 480, 481, 482, 483, 484, 485, 486, 487, 488, 489, 490, 491, 492]] : List (List Nat)).getD k []).getD j 0]? = some (Cond.eq (.elem (.field (st_tm k) "java/lang/String" "value" "[B") (.int (Int32.ofNat j))) (.int (nI (mt_sch k j)))) := by decide +kernel
theorem st_6 : ∀ k, k < 27 → mt_sln k < 2 ^ 31 := by decide +kernel
theorem st_7 : ∀ k, k < 27 → ∀ k2, k2 < 27 → mt_sln k = mt_sln k2 → (∀ j, j < mt_sln k → nI (mt_sch k j) = nI (mt_sch k2 j)) → k = k2 := by decide +kernel
theorem st_r502 : Cond.stringRef (mw_on 4) 502 (mw_tx.getD 23 "") ∈ lw_tbl := mw_tm3 (List.mem_of_getElem? (i := 232) rfl)
theorem st_r512 : Cond.stringRef (mw_on 4) 512 (mw_tx.getD 24 "") ∈ lw_tbl := mw_tm4 (List.mem_of_getElem? (i := 50) rfl)
theorem st_r380 : Cond.stringRef (mw_on 13) 380 (mw_tx.getD 25 "") ∈ lw_tbl := mw_tm10 (List.mem_of_getElem? (i := 215) rfl)
theorem st_r392 : Cond.stringRef (mw_on 13) 392 (mw_tx.getD 26 "") ∈ lw_tbl := mw_tm10 (List.mem_of_getElem? (i := 230) rfl)
theorem st_r562 : Cond.stringRef (mw_on 13) 562 (mw_tx.getD 23 "") ∈ lw_tbl := mw_tm10 (List.mem_of_getElem? (i := 148) rfl)
theorem st_r568 : Cond.stringRef (mw_on 13) 568 (mw_tx.getD 24 "") ∈ lw_tbl := mw_tm10 (List.mem_of_getElem? (i := 170) rfl)
theorem st_q23 : st_T[350]? = some (Cond.eq (.string "LinkedCores$Reader" 502) (st_tm 23)) := by decide +kernel
theorem st_q24 : st_T[359]? = some (Cond.eq (.string "LinkedCores$Reader" 512) (st_tm 24)) := by decide +kernel
theorem st_lA : Cond.laysStatic "java/lang/String" "COMPACT_STRINGS" "Z" ∈ lw_tbl := mw_tm4 (List.mem_of_getElem? (i := 5) rfl)
theorem st_iA : Cond.initialized "java/lang/String" ∈ lw_tbl := mw_tm1 (List.mem_of_getElem? (i := 21) rfl)
theorem st_vA : st_T[32]? = some (Cond.eq (.static "java/lang/String" "COMPACT_STRINGS" "Z") (.int 1)) := by decide +kernel
theorem st_lB : Cond.laysStatic "jdk/internal/util/Preconditions" "SIOOBE_FORMATTER" "Ljava/util/function/BiFunction;" ∈ lw_tbl := mw_tm4 (List.mem_of_getElem? (i := 21) rfl)
theorem st_iB : Cond.initialized "jdk/internal/util/Preconditions" ∈ lw_tbl := mw_tm1 (List.mem_of_getElem? (i := 23) rfl)
theorem st_vB : st_T[33]? = some (Cond.isRef (.static "jdk/internal/util/Preconditions" "SIOOBE_FORMATTER" "Ljava/util/function/BiFunction;")) := by decide +kernel
theorem st_lC : Cond.laysStatic "java/lang/Throwable" "UNASSIGNED_STACK" "[Ljava/lang/StackTraceElement;" ∈ lw_tbl := mw_tm7 (List.mem_of_getElem? (i := 52) rfl)
theorem st_iC : Cond.initialized "java/lang/Throwable" ∈ lw_tbl := mw_tm1 (List.mem_of_getElem? (i := 16) rfl)
theorem st_vC : st_T[190]? = some (Cond.isRef (.static "java/lang/Throwable" "UNASSIGNED_STACK" "[Ljava/lang/StackTraceElement;")) := by decide +kernel
theorem st_lD : Cond.laysStatic "java/lang/Throwable" "SUPPRESSED_SENTINEL" "Ljava/util/List;" ∈ lw_tbl := mw_tm7 (List.mem_of_getElem? (i := 54) rfl)
theorem st_iD : Cond.initialized "java/lang/Throwable" ∈ lw_tbl := mw_tm1 (List.mem_of_getElem? (i := 16) rfl)
theorem st_vD : st_T[191]? = some (Cond.isRef (.static "java/lang/Throwable" "SUPPRESSED_SENTINEL" "Ljava/util/List;")) := by decide +kernel
theorem st_lV : Cond.laysStatic "LinkedCores$Word" "$VALUES" "[LLinkedCores$Word;" ∈ lw_tbl := mw_tm2 (List.mem_of_getElem? (i := 9) rfl)
theorem st_iV : Cond.initialized "LinkedCores$Word" ∈ lw_tbl := mw_tm1 (List.mem_of_getElem? (i := 7) rfl)
theorem st_vV : st_T[4]? = some (Cond.isRef (.static "LinkedCores$Word" "$VALUES" "[LLinkedCores$Word;")) := by decide +kernel
theorem st_w1 : st_T[5]? = some (Cond.exactly (.static "LinkedCores$Word" "$VALUES" "[LLinkedCores$Word;") "[LLinkedCores$Word;") := by decide +kernel
theorem st_w2 : st_T[7]? = some (Cond.eq (.length (.static "LinkedCores$Word" "$VALUES" "[LLinkedCores$Word;")) (.int 23)) := by decide +kernel
theorem st_w3 : ∀ i, i < 23 → st_T[([9, 10, 11, 12, 13, 14, 15, 16, 17, 18, 19, 20, 21, 22, 23, 24, 25, 26, 27, 28, 29, 30, 31] : List Nat).getD i 0]? = some (Cond.eq (.elem (.static "LinkedCores$Word" "$VALUES" "[LLinkedCores$Word;") (.int (nI i))) (.static (mw_ec 16) ((mw_en 16).getD i "") (mw_ed 16))) := by decide +kernel
theorem st_w4 : Cond.castable "[LLinkedCores$Word;" "java/lang/Cloneable" ∈ lw_tbl := mw_tm2 (List.mem_of_getElem? (i := 15) rfl)
theorem st_c1 : ∀ i, i < 6 → ∀ j, j < 6 → (0 < i ∧ 0 < j ∧ ¬ i = j) → st_T[([0, 0, 0, 0, 0, 0, 0, 0, 316, 276, 296, 256, 0, 241, 0, 281, 301, 261, 0, 239, 320, 0, 300, 259, 0, 240, 321, 280, 0, 260, 0, 236, 317, 277, 297, 0] : List Nat).getD (6 * i + j) 0]? = some (Cond.not (Cond.castable (mw_xn i) (mw_xn j))) := by decide +kernel
theorem st_c2 : ∀ i, i < 6 → 0 < i → lw_tbl[([0, 1831, 1917, 1736, 1890, 1846] : List Nat).getD i 0]? = some (Cond.castable (mw_xn i) (mw_xn i)) := by decide +kernel
theorem st_d1 : Cond.declares ⟨"java/lang/RuntimeException", "<init>", "()V"⟩ ∈ lw_tbl := mw_tm7 (List.mem_of_getElem? (i := 28) rfl)
theorem st_d2 : Cond.declares ⟨"java/lang/Exception", "<init>", "()V"⟩ ∈ lw_tbl := mw_tm7 (List.mem_of_getElem? (i := 30) rfl)
theorem st_d3 : Cond.declares ⟨"java/lang/Throwable", "<init>", "()V"⟩ ∈ lw_tbl := mw_tm7 (List.mem_of_getElem? (i := 32) rfl)
theorem st_a0 : Cond.arrayClass .int ∈ lw_tbl := mw_tm1 (List.mem_of_getElem? (i := 231) rfl)
theorem st_a1 : Cond.arrayClass .boolean ∈ lw_tbl := mw_tm2 (List.mem_of_getElem? (i := 165) rfl)
theorem st_a2 : Cond.arrayClass .byte ∈ lw_tbl := mw_tm1 (List.mem_of_getElem? (i := 56) rfl)
theorem st_a3 : Cond.arrayClass .long ∈ lw_tbl := mw_tm1 (List.mem_of_getElem? (i := 232) rfl)
theorem st_a12 : Cond.arrayOver (.object "LinkedCores$Link") ∈ lw_tbl := mw_tm3 (List.mem_of_getElem? (i := 10) rfl)
theorem st_a13 : Cond.arrayOver (.object "LinkedCores$Core") ∈ lw_tbl := mw_tm3 (List.mem_of_getElem? (i := 12) rfl)
theorem st_a16 : Cond.arrayOver (.object "LinkedCores$Word") ∈ lw_tbl := mw_tm2 (List.mem_of_getElem? (i := 16) rfl)
theorem st_a17 : Cond.arrayOver (.object "LinkedCores$What") ∈ lw_tbl := mw_tm1 (List.mem_of_getElem? (i := 64) rfl)
theorem st_a18 : Cond.arrayOver (.object "LinkedCores$Sort") ∈ lw_tbl := mw_tm1 (List.mem_of_getElem? (i := 66) rfl)
