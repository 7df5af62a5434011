/-- the tables' words that stay -/
def mw_good : List Cond := lw_tbl.filter goodWord
theorem mw_good_of {w : Cond} (h : w ∈ lw_tbl) (hg : goodWord w = true) : w ∈ mw_good := List.mem_filter.mpr ⟨h, hg⟩
theorem mw_good_in {w : Cond} (h : w ∈ mw_good) : w ∈ lw_tbl := (List.mem_filter.mp h).1
theorem mw_mem_all {ws : List Cond} (ps : List Nat) (h : ps.map (fun i => lw_tbl[i]?) = ws.map some) : ∀ w ∈ ws, w ∈ lw_tbl := by
  intro w hw
  have h1 : some w ∈ ws.map some := List.mem_map.mpr ⟨w, hw, rfl⟩
  rw [← h] at h1
  obtain ⟨i, -, hi⟩ := List.mem_map.mp h1
  exact List.mem_of_getElem? hi
theorem mw_mem_of {ws : List Cond} (ps : List Nat) (h : ps.map (fun i => lw_tbl[i]?) = ws.map some) (hg : ws.all goodWord = true) : ∀ w ∈ ws, w ∈ mw_good :=
  fun w hw => mw_good_of (mw_mem_all ps h w hw) (List.all_eq_true.mp hg w hw)
theorem mw_tm0 {w : Cond} (h : w ∈ tables_1) : w ∈ lw_tbl := List.mem_append_right _ h
theorem mw_tm1 {w : Cond} (h : w ∈ tables_1_1) : w ∈ lw_tbl := mw_tm0 (show w ∈ tables_1 from List.mem_append_left _ h)
theorem mw_tm2 {w : Cond} (h : w ∈ tables_1_2) : w ∈ lw_tbl := mw_tm0 (show w ∈ tables_1 from List.mem_append_right _ (List.mem_append_left _ h))
theorem mw_tm3 {w : Cond} (h : w ∈ tables_1_3) : w ∈ lw_tbl := mw_tm0 (show w ∈ tables_1 from List.mem_append_right _ (List.mem_append_right _ (List.mem_append_left _ h)))
theorem mw_tm4 {w : Cond} (h : w ∈ tables_1_4) : w ∈ lw_tbl := mw_tm0 (show w ∈ tables_1 from List.mem_append_right _ (List.mem_append_right _ (List.mem_append_right _ (List.mem_append_left _ h))))
theorem mw_tm5 {w : Cond} (h : w ∈ tables_1_5) : w ∈ lw_tbl := mw_tm0 (show w ∈ tables_1 from List.mem_append_right _ (List.mem_append_right _ (List.mem_append_right _ (List.mem_append_right _ (List.mem_append_left _ h)))))
theorem mw_tm6 {w : Cond} (h : w ∈ tables_1_6) : w ∈ lw_tbl := mw_tm0 (show w ∈ tables_1 from List.mem_append_right _ (List.mem_append_right _ (List.mem_append_right _ (List.mem_append_right _ (List.mem_append_right _ (List.mem_append_left _ h))))))
theorem mw_tm7 {w : Cond} (h : w ∈ tables_1_7) : w ∈ lw_tbl := mw_tm0 (show w ∈ tables_1 from List.mem_append_right _ (List.mem_append_right _ (List.mem_append_right _ (List.mem_append_right _ (List.mem_append_right _ (List.mem_append_right _ (List.mem_append_left _ h)))))))
theorem mw_tm8 {w : Cond} (h : w ∈ tables_1_8) : w ∈ lw_tbl := mw_tm0 (show w ∈ tables_1 from List.mem_append_right _ (List.mem_append_right _ (List.mem_append_right _ (List.mem_append_right _ (List.mem_append_right _ (List.mem_append_right _ (List.mem_append_right _ (List.mem_append_left _ h))))))))
theorem mw_tm9 {w : Cond} (h : w ∈ tables_1_9) : w ∈ lw_tbl := mw_tm0 (show w ∈ tables_1 from List.mem_append_right _ (List.mem_append_right _ (List.mem_append_right _ (List.mem_append_right _ (List.mem_append_right _ (List.mem_append_right _ (List.mem_append_right _ (List.mem_append_right _ (List.mem_append_left _ h)))))))))
theorem mw_tm10 {w : Cond} (h : w ∈ tables_1_10) : w ∈ lw_tbl := mw_tm0 (show w ∈ tables_1 from List.mem_append_right _ (List.mem_append_right _ (List.mem_append_right _ (List.mem_append_right _ (List.mem_append_right _ (List.mem_append_right _ (List.mem_append_right _ (List.mem_append_right _ (List.mem_append_right _ (List.mem_append_left _ h))))))))))
theorem mw_tm11 {w : Cond} (h : w ∈ tables_1_11) : w ∈ lw_tbl := mw_tm0 (show w ∈ tables_1 from List.mem_append_right _ (List.mem_append_right _ (List.mem_append_right _ (List.mem_append_right _ (List.mem_append_right _ (List.mem_append_right _ (List.mem_append_right _ (List.mem_append_right _ (List.mem_append_right _ (List.mem_append_right _ (List.mem_append_left _ h)))))))))))
theorem mw_tm12 {w : Cond} (h : w ∈ tables_1_12) : w ∈ lw_tbl := mw_tm0 (show w ∈ tables_1 from List.mem_append_right _ (List.mem_append_right _ (List.mem_append_right _ (List.mem_append_right _ (List.mem_append_right _ (List.mem_append_right _ (List.mem_append_right _ (List.mem_append_right _ (List.mem_append_right _ (List.mem_append_right _ (List.mem_append_right _ (List.mem_append_left _ h))))))))))))
theorem mw_tm13 {w : Cond} (h : w ∈ tables_1_13) : w ∈ lw_tbl := mw_tm0 (show w ∈ tables_1 from List.mem_append_right _ (List.mem_append_right _ (List.mem_append_right _ (List.mem_append_right _ (List.mem_append_right _ (List.mem_append_right _ (List.mem_append_right _ (List.mem_append_right _ (List.mem_append_right _ (List.mem_append_right _ (List.mem_append_right _ (List.mem_append_right _ (h)))))))))))))
/-! NAMES of the real machine (printed by tools/mjnames.py) -/
def mw_on_0 (cn : Nat) : String := bif Nat.ble cn 2 then (bif Nat.ble cn 1 then (bif Nat.beq cn 1 then "LinkedCores" else "") else (bif Nat.beq cn 2 then "LinkedCores$Text" else "")) else (bif Nat.ble cn 3 then (bif Nat.beq cn 3 then "LinkedCores$Tree" else "") else (bif Nat.beq cn 4 then "LinkedCores$Reader" else ""))
def mw_on_1 (cn : Nat) : String := bif Nat.ble cn 6 then (bif Nat.ble cn 5 then (bif Nat.beq cn 5 then "LinkedCores$Lexer" else "") else (bif Nat.beq cn 6 then "LinkedCores$Measure" else "")) else (bif Nat.ble cn 7 then (bif Nat.beq cn 7 then "LinkedCores$Uses" else "") else (bif Nat.ble cn 8 then (bif Nat.beq cn 8 then "LinkedCores$Coder" else "") else (bif Nat.beq cn 9 then "LinkedCores$Host" else "")))
def mw_on_2 (cn : Nat) : String := bif Nat.ble cn 11 then (bif Nat.ble cn 10 then (bif Nat.beq cn 10 then "LinkedCores$Link" else "") else (bif Nat.beq cn 11 then "LinkedCores$Core" else "")) else (bif Nat.ble cn 12 then (bif Nat.beq cn 12 then "LinkedCores$Line" else "") else (bif Nat.ble cn 13 then (bif Nat.beq cn 13 then "LinkedCoresModel" else "") else (bif Nat.beq cn 50 then "java/lang/Math" else "")))
def mw_on (cn : Nat) : String := bif Nat.ble cn 4 then (mw_on_0 cn) else (bif Nat.ble cn 9 then (mw_on_1 cn) else (mw_on_2 cn))
def mw_F1 : u_T := fun k => match k with
  | 0 => ("LinkedCores", "text", "LLinkedCores$Text;", true)
  | 1 => ("LinkedCores", "tree", "LLinkedCores$Tree;", true)
  | 2 => ("LinkedCores", "reader", "LLinkedCores$Reader;", true)
  | 3 => ("LinkedCores", "measure", "LLinkedCores$Measure;", true)
  | 4 => ("LinkedCores", "uses", "LLinkedCores$Uses;", true)
  | 5 => ("LinkedCores", "coder", "LLinkedCores$Coder;", true)
  | 6 => ("LinkedCores", "host", "LLinkedCores$Host;", true)
  | 7 => ("LinkedCores", "links", "[LLinkedCores$Link;", true)
  | 8 => ("LinkedCores", "cores", "[LLinkedCores$Core;", true)
  | 9 => ("LinkedCores", "hasProgram", "Z", false)
  | 10 => ("LinkedCores", "processors", "I", false)
  | 11 => ("LinkedCores", "faultKind", "I", false)
  | 12 => ("LinkedCores", "faultLine", "I", false)
  | 13 => ("LinkedCores", "faultPlace", "I", false)
  | 14 => ("LinkedCores", "beats", "I", false)
  | _ => ("LinkedCores", "packets", "I", false)
def mw_t1 : Nat → FieldType := fun k => match k with
  | 0 => (.object "LinkedCores$Text")
  | 1 => (.object "LinkedCores$Tree")
  | 2 => (.object "LinkedCores$Reader")
  | 3 => (.object "LinkedCores$Measure")
  | 4 => (.object "LinkedCores$Uses")
  | 5 => (.object "LinkedCores$Coder")
  | 6 => (.object "LinkedCores$Host")
  | 7 => (.array (.object "LinkedCores$Link"))
  | 8 => (.array (.object "LinkedCores$Core"))
  | 9 => .boolean
  | 10 => .int
  | 11 => .int
  | 12 => .int
  | 13 => .int
  | 14 => .int
  | _ => .int
theorem mw_n1 : ∀ a, a < 16 → ∀ b, b < 16 → a ≠ b → (mw_F1 a).2.1 ≠ (mw_F1 b).2.1 := by decide +kernel
theorem mw_o1 : ∀ k, k < 16 → parseFieldDescriptor (mw_F1 k).2.2.1 = some (mw_t1 k) := by decide +kernel
set_option maxRecDepth 20000 in
theorem mw_i1 : ∀ w ∈ u_ws "LinkedCores" mw_F1 16, w ∈ mw_good := mw_mem_of [936, 938, 940, 942, 944, 946, 948, 950, 952, 954, 956, 958, 960, 962, 964, 966] (by decide +kernel) (by decide +kernel)
def mw_F2 : u_T := fun k => match k with
  | 0 => ("LinkedCores$Text", "signs", "[B", true)
  | _ => ("LinkedCores$Text", "size", "I", false)
def mw_t2 : Nat → FieldType := fun k => match k with
  | 0 => (.array .byte)
  | _ => .int
theorem mw_n2 : ∀ a, a < 2 → ∀ b, b < 2 → a ≠ b → (mw_F2 a).2.1 ≠ (mw_F2 b).2.1 := by decide +kernel
theorem mw_o2 : ∀ k, k < 2 → parseFieldDescriptor (mw_F2 k).2.2.1 = some (mw_t2 k) := by decide +kernel
set_option maxRecDepth 20000 in
theorem mw_i2 : ∀ w ∈ u_ws "LinkedCores$Text" mw_F2 2, w ∈ mw_good := mw_mem_of [320, 322] (by decide +kernel) (by decide +kernel)
def mw_F3 : u_T := fun k => match k with
  | 0 => ("LinkedCores$Tree", "whats", "[LLinkedCores$What;", true)
  | 1 => ("LinkedCores$Tree", "firsts", "[I", true)
  | 2 => ("LinkedCores$Tree", "seconds", "[I", true)
  | 3 => ("LinkedCores$Tree", "thirds", "[I", true)
  | 4 => ("LinkedCores$Tree", "values", "[I", true)
  | 5 => ("LinkedCores$Tree", "nexts", "[I", true)
  | 6 => ("LinkedCores$Tree", "lines", "[I", true)
  | 7 => ("LinkedCores$Tree", "extents", "[I", true)
  | 8 => ("LinkedCores$Tree", "depths", "[I", true)
  | 9 => ("LinkedCores$Tree", "parts", "I", false)
  | 10 => ("LinkedCores$Tree", "names", "[J", true)
  | 11 => ("LinkedCores$Tree", "rests", "[J", true)
  | 12 => ("LinkedCores$Tree", "sorts", "[LLinkedCores$Sort;", true)
  | 13 => ("LinkedCores$Tree", "sizes", "[I", true)
  | 14 => ("LinkedCores$Tree", "nameCount", "I", false)
  | 15 => ("LinkedCores$Tree", "frames", "[I", true)
  | 16 => ("LinkedCores$Tree", "slots", "[I", true)
  | 17 => ("LinkedCores$Tree", "procs", "I", false)
  | 18 => ("LinkedCores$Tree", "procNames", "[I", true)
  | 19 => ("LinkedCores$Tree", "procBodies", "[I", true)
  | 20 => ("LinkedCores$Tree", "parameterCounts", "[I", true)
  | 21 => ("LinkedCores$Tree", "parameters", "[I", true)
  | 22 => ("LinkedCores$Tree", "procSizes", "[I", true)
  | 23 => ("LinkedCores$Tree", "procDepths", "[I", true)
  | 24 => ("LinkedCores$Tree", "procUses", "[I", true)
  | 25 => ("LinkedCores$Tree", "links", "I", false)
  | 26 => ("LinkedCores$Tree", "linkFroms", "[I", true)
  | 27 => ("LinkedCores$Tree", "linkTos", "[I", true)
  | _ => ("LinkedCores$Tree", "roots", "[I", true)
def mw_t3 : Nat → FieldType := fun k => match k with
  | 0 => (.array (.object "LinkedCores$What"))
  | 1 => (.array .int)
  | 2 => (.array .int)
  | 3 => (.array .int)
  | 4 => (.array .int)
  | 5 => (.array .int)
  | 6 => (.array .int)
  | 7 => (.array .int)
  | 8 => (.array .int)
  | 9 => .int
  | 10 => (.array .long)
  | 11 => (.array .long)
  | 12 => (.array (.object "LinkedCores$Sort"))
  | 13 => (.array .int)
  | 14 => .int
  | 15 => (.array .int)
  | 16 => (.array .int)
  | 17 => .int
  | 18 => (.array .int)
  | 19 => (.array .int)
  | 20 => (.array .int)
  | 21 => (.array .int)
  | 22 => (.array .int)
  | 23 => (.array .int)
  | 24 => (.array .int)
  | 25 => .int
  | 26 => (.array .int)
  | 27 => (.array .int)
  | _ => (.array .int)
theorem mw_n3 : ∀ a, a < 29 → ∀ b, b < 29 → a ≠ b → (mw_F3 a).2.1 ≠ (mw_F3 b).2.1 := by decide +kernel
theorem mw_o3 : ∀ k, k < 29 → parseFieldDescriptor (mw_F3 k).2.2.1 = some (mw_t3 k) := by decide +kernel
set_option maxRecDepth 20000 in
theorem mw_i3 : ∀ w ∈ u_ws "LinkedCores$Tree" mw_F3 29, w ∈ mw_good := mw_mem_of [441, 443, 445, 447, 449, 451, 453, 455, 457, 459, 461, 463, 465, 467, 469, 471, 473, 475, 477, 479, 481, 483, 485, 487, 489, 491, 493, 495, 497] (by decide +kernel) (by decide +kernel)
def mw_F4 : u_T := fun k => match k with
  | 0 => ("LinkedCores$Reader", "lexer", "LLinkedCores$Lexer;", true)
  | 1 => ("LinkedCores$Reader", "tree", "LLinkedCores$Tree;", true)
  | 2 => ("LinkedCores$Reader", "kind", "I", false)
  | 3 => ("LinkedCores$Reader", "faultLine", "I", false)
  | 4 => ("LinkedCores$Reader", "faultPlace", "I", false)
  | 5 => ("LinkedCores$Reader", "seen", "[I", true)
  | 6 => ("LinkedCores$Reader", "seenCount", "I", false)
  | _ => ("LinkedCores$Reader", "brackets", "I", false)
def mw_t4 : Nat → FieldType := fun k => match k with
  | 0 => (.object "LinkedCores$Lexer")
  | 1 => (.object "LinkedCores$Tree")
  | 2 => .int
  | 3 => .int
  | 4 => .int
  | 5 => (.array .int)
  | 6 => .int
  | _ => .int
theorem mw_n4 : ∀ a, a < 8 → ∀ b, b < 8 → a ≠ b → (mw_F4 a).2.1 ≠ (mw_F4 b).2.1 := by decide +kernel
theorem mw_o4 : ∀ k, k < 8 → parseFieldDescriptor (mw_F4 k).2.2.1 = some (mw_t4 k) := by decide +kernel
set_option maxRecDepth 20000 in
theorem mw_i4 : ∀ w ∈ u_ws "LinkedCores$Reader" mw_F4 8, w ∈ mw_good := mw_mem_of [601, 603, 605, 607, 609, 611, 613, 615] (by decide +kernel) (by decide +kernel)
def mw_F5 : u_T := fun k => match k with
  | 0 => ("LinkedCores$Lexer", "text", "LLinkedCores$Text;", true)
  | 1 => ("LinkedCores$Lexer", "words", "[LLinkedCores$Word;", true)
  | 2 => ("LinkedCores$Lexer", "next", "I", false)
  | 3 => ("LinkedCores$Lexer", "number", "I", false)
  | 4 => ("LinkedCores$Lexer", "begin", "I", false)
  | 5 => ("LinkedCores$Lexer", "end", "I", false)
  | 6 => ("LinkedCores$Lexer", "at", "I", false)
  | 7 => ("LinkedCores$Lexer", "isOver", "Z", false)
  | 8 => ("LinkedCores$Lexer", "level", "I", false)
  | 9 => ("LinkedCores$Lexer", "isOdd", "Z", false)
  | 10 => ("LinkedCores$Lexer", "token", "I", false)
  | 11 => ("LinkedCores$Lexer", "place", "I", false)
  | 12 => ("LinkedCores$Lexer", "word", "LLinkedCores$Word;", false)
  | 13 => ("LinkedCores$Lexer", "name", "J", false)
  | 14 => ("LinkedCores$Lexer", "rest", "J", false)
  | 15 => ("LinkedCores$Lexer", "value", "I", false)
  | _ => ("LinkedCores$Lexer", "sign", "I", false)
def mw_t5 : Nat → FieldType := fun k => match k with
  | 0 => (.object "LinkedCores$Text")
  | 1 => (.array (.object "LinkedCores$Word"))
  | 2 => .int
  | 3 => .int
  | 4 => .int
  | 5 => .int
  | 6 => .int
  | 7 => .boolean
  | 8 => .int
  | 9 => .boolean
  | 10 => .int
  | 11 => .int
  | 12 => (.object "LinkedCores$Word")
  | 13 => .long
  | 14 => .long
  | 15 => .int
  | _ => .int
theorem mw_n5 : ∀ a, a < 17 → ∀ b, b < 17 → a ≠ b → (mw_F5 a).2.1 ≠ (mw_F5 b).2.1 := by decide +kernel
theorem mw_o5 : ∀ k, k < 17 → parseFieldDescriptor (mw_F5 k).2.2.1 = some (mw_t5 k) := by decide +kernel
set_option maxRecDepth 20000 in
theorem mw_i5 : ∀ w ∈ u_ws "LinkedCores$Lexer" mw_F5 17, w ∈ mw_good := mw_mem_of [555, 557, 559, 561, 563, 565, 567, 569, 571, 573, 575, 577, 579, 581, 583, 585, 587] (by decide +kernel) (by decide +kernel)
def mw_F6 : u_T := fun k => match k with
  | _ => ("LinkedCores$Measure", "tree", "LLinkedCores$Tree;", true)
def mw_t6 : Nat → FieldType := fun k => match k with
  | _ => (.object "LinkedCores$Tree")
theorem mw_n6 : ∀ a, a < 1 → ∀ b, b < 1 → a ≠ b → (mw_F6 a).2.1 ≠ (mw_F6 b).2.1 := by decide +kernel
theorem mw_o6 : ∀ k, k < 1 → parseFieldDescriptor (mw_F6 k).2.2.1 = some (mw_t6 k) := by decide +kernel
set_option maxRecDepth 20000 in
theorem mw_i6 : ∀ w ∈ u_ws "LinkedCores$Measure" mw_F6 1, w ∈ mw_good := mw_mem_of [625] (by decide +kernel) (by decide +kernel)
def mw_F7 : u_T := fun k => match k with
  | 0 => ("LinkedCores$Uses", "tree", "LLinkedCores$Tree;", true)
  | 1 => ("LinkedCores$Uses", "things", "[I", true)
  | 2 => ("LinkedCores$Uses", "elements", "[I", true)
  | 3 => ("LinkedCores$Uses", "modes", "[I", true)
  | 4 => ("LinkedCores$Uses", "isAll", "[Z", true)
  | 5 => ("LinkedCores$Uses", "count", "I", false)
  | 6 => ("LinkedCores$Uses", "constants", "[I", true)
  | 7 => ("LinkedCores$Uses", "line", "I", false)
  | 8 => ("LinkedCores$Uses", "processor", "I", false)
  | 9 => ("LinkedCores$Uses", "given", "[I", true)
  | 10 => ("LinkedCores$Uses", "givenAll", "[Z", true)
  | 11 => ("LinkedCores$Uses", "givenElements", "[I", true)
  | _ => ("LinkedCores$Uses", "givenModes", "[I", true)
def mw_t7 : Nat → FieldType := fun k => match k with
  | 0 => (.object "LinkedCores$Tree")
  | 1 => (.array .int)
  | 2 => (.array .int)
  | 3 => (.array .int)
  | 4 => (.array .boolean)
  | 5 => .int
  | 6 => (.array .int)
  | 7 => .int
  | 8 => .int
  | 9 => (.array .int)
  | 10 => (.array .boolean)
  | 11 => (.array .int)
  | _ => (.array .int)
theorem mw_n7 : ∀ a, a < 13 → ∀ b, b < 13 → a ≠ b → (mw_F7 a).2.1 ≠ (mw_F7 b).2.1 := by decide +kernel
theorem mw_o7 : ∀ k, k < 13 → parseFieldDescriptor (mw_F7 k).2.2.1 = some (mw_t7 k) := by decide +kernel
set_option maxRecDepth 20000 in
theorem mw_i7 : ∀ w ∈ u_ws "LinkedCores$Uses" mw_F7 13, w ∈ mw_good := mw_mem_of [647, 649, 651, 653, 655, 657, 659, 661, 663, 665, 667, 669, 671] (by decide +kernel) (by decide +kernel)
def mw_F8 : u_T := fun k => match k with
  | 0 => ("LinkedCores$Coder", "tree", "LLinkedCores$Tree;", true)
  | 1 => ("LinkedCores$Coder", "functions", "[I", true)
  | 2 => ("LinkedCores$Coder", "operands", "[I", true)
  | 3 => ("LinkedCores$Coder", "targets", "[I", true)
  | 4 => ("LinkedCores$Coder", "bases", "[I", true)
  | 5 => ("LinkedCores$Coder", "lengths", "[I", true)
  | 6 => ("LinkedCores$Coder", "places", "[I", true)
  | 7 => ("LinkedCores$Coder", "instructions", "I", false)
  | 8 => ("LinkedCores$Coder", "labels", "[I", true)
  | 9 => ("LinkedCores$Coder", "labelCount", "I", false)
  | 10 => ("LinkedCores$Coder", "procLabels", "[I", true)
  | 11 => ("LinkedCores$Coder", "distances", "[I", true)
  | 12 => ("LinkedCores$Coder", "frame", "I", false)
  | 13 => ("LinkedCores$Coder", "free", "I", false)
  | 14 => ("LinkedCores$Coder", "tooMuch", "Z", false)
  | _ => ("LinkedCores$Coder", "entry", "I", false)
def mw_t8 : Nat → FieldType := fun k => match k with
  | 0 => (.object "LinkedCores$Tree")
  | 1 => (.array .int)
  | 2 => (.array .int)
  | 3 => (.array .int)
  | 4 => (.array .int)
  | 5 => (.array .int)
  | 6 => (.array .int)
  | 7 => .int
  | 8 => (.array .int)
  | 9 => .int
  | 10 => (.array .int)
  | 11 => (.array .int)
  | 12 => .int
  | 13 => .int
  | 14 => .boolean
  | _ => .int
theorem mw_n8 : ∀ a, a < 16 → ∀ b, b < 16 → a ≠ b → (mw_F8 a).2.1 ≠ (mw_F8 b).2.1 := by decide +kernel
theorem mw_o8 : ∀ k, k < 16 → parseFieldDescriptor (mw_F8 k).2.2.1 = some (mw_t8 k) := by decide +kernel
set_option maxRecDepth 20000 in
theorem mw_i8 : ∀ w ∈ u_ws "LinkedCores$Coder" mw_F8 16, w ∈ mw_good := mw_mem_of [698, 700, 702, 704, 706, 708, 710, 712, 714, 716, 718, 720, 722, 724, 726, 728] (by decide +kernel) (by decide +kernel)
def mw_F9 : u_T := fun k => match k with
  | 0 => ("LinkedCores$Host", "inputs", "[I", true)
  | 1 => ("LinkedCores$Host", "given", "I", false)
  | 2 => ("LinkedCores$Host", "taken", "I", false)
  | 3 => ("LinkedCores$Host", "outputs", "[I", true)
  | _ => ("LinkedCores$Host", "count", "I", false)
def mw_t9 : Nat → FieldType := fun k => match k with
  | 0 => (.array .int)
  | 1 => .int
  | 2 => .int
  | 3 => (.array .int)
  | _ => .int
theorem mw_n9 : ∀ a, a < 5 → ∀ b, b < 5 → a ≠ b → (mw_F9 a).2.1 ≠ (mw_F9 b).2.1 := by decide +kernel
theorem mw_o9 : ∀ k, k < 5 → parseFieldDescriptor (mw_F9 k).2.2.1 = some (mw_t9 k) := by decide +kernel
set_option maxRecDepth 20000 in
theorem mw_i9 : ∀ w ∈ u_ws "LinkedCores$Host" mw_F9 5, w ∈ mw_good := mw_mem_of [747, 749, 751, 753, 755] (by decide +kernel) (by decide +kernel)
def mw_F10 : u_T := fun k => match k with
  | 0 => ("LinkedCores$Link", "waits", "Z", false)
  | 1 => ("LinkedCores$Link", "word", "I", false)
  | 2 => ("LinkedCores$Link", "sent", "I", false)
  | 3 => ("LinkedCores$Link", "acknowledged", "I", false)
  | 4 => ("LinkedCores$Link", "came", "I", false)
  | _ => ("LinkedCores$Link", "isDue", "Z", false)
def mw_t10 : Nat → FieldType := fun k => match k with
  | 0 => .boolean
  | 1 => .int
  | 2 => .int
  | 3 => .int
  | 4 => .int
  | _ => .boolean
theorem mw_n10 : ∀ a, a < 6 → ∀ b, b < 6 → a ≠ b → (mw_F10 a).2.1 ≠ (mw_F10 b).2.1 := by decide +kernel
theorem mw_o10 : ∀ k, k < 6 → parseFieldDescriptor (mw_F10 k).2.2.1 = some (mw_t10 k) := by decide +kernel
set_option maxRecDepth 20000 in
theorem mw_i10 : ∀ w ∈ u_ws "LinkedCores$Link" mw_F10 6, w ∈ mw_good := mw_mem_of [781, 783, 785, 787, 789, 791] (by decide +kernel) (by decide +kernel)
def mw_F11 : u_T := fun k => match k with
  | 0 => ("LinkedCores$Core", "host", "LLinkedCores$Host;", true)
  | 1 => ("LinkedCores$Core", "links", "[LLinkedCores$Link;", true)
  | 2 => ("LinkedCores$Core", "code", "[B", true)
  | 3 => ("LinkedCores$Core", "bytes", "I", false)
  | 4 => ("LinkedCores$Core", "entry", "I", false)
  | 5 => ("LinkedCores$Core", "words", "I", false)
  | 6 => ("LinkedCores$Core", "firstW", "I", false)
  | 7 => ("LinkedCores$Core", "memory", "[I", true)
  | 8 => ("LinkedCores$Core", "a", "I", false)
  | 9 => ("LinkedCores$Core", "b", "I", false)
  | 10 => ("LinkedCores$Core", "c", "I", false)
  | 11 => ("LinkedCores$Core", "i", "I", false)
  | 12 => ("LinkedCores$Core", "w", "I", false)
  | 13 => ("LinkedCores$Core", "o", "I", false)
  | 14 => ("LinkedCores$Core", "runs", "Z", false)
  | 15 => ("LinkedCores$Core", "isLow", "Z", false)
  | 16 => ("LinkedCores$Core", "slice", "I", false)
  | 17 => ("LinkedCores$Core", "did", "I", false)
  | 18 => ("LinkedCores$Core", "error", "Z", false)
  | 19 => ("LinkedCores$Core", "done", "Z", false)
  | 20 => ("LinkedCores$Core", "high", "LLinkedCores$Line;", true)
  | 21 => ("LinkedCores$Core", "low", "LLinkedCores$Line;", true)
  | 22 => ("LinkedCores$Core", "isKept", "Z", false)
  | 23 => ("LinkedCores$Core", "keptW", "I", false)
  | 24 => ("LinkedCores$Core", "keptA", "I", false)
  | 25 => ("LinkedCores$Core", "keptB", "I", false)
  | 26 => ("LinkedCores$Core", "keptC", "I", false)
  | _ => ("LinkedCores$Core", "keptO", "I", false)
def mw_t11 : Nat → FieldType := fun k => match k with
  | 0 => (.object "LinkedCores$Host")
  | 1 => (.array (.object "LinkedCores$Link"))
  | 2 => (.array .byte)
  | 3 => .int
  | 4 => .int
  | 5 => .int
  | 6 => .int
  | 7 => (.array .int)
  | 8 => .int
  | 9 => .int
  | 10 => .int
  | 11 => .int
  | 12 => .int
  | 13 => .int
  | 14 => .boolean
  | 15 => .boolean
  | 16 => .int
  | 17 => .int
  | 18 => .boolean
  | 19 => .boolean
  | 20 => (.object "LinkedCores$Line")
  | 21 => (.object "LinkedCores$Line")
  | 22 => .boolean
  | 23 => .int
  | 24 => .int
  | 25 => .int
  | 26 => .int
  | _ => .int
theorem mw_n11 : ∀ a, a < 28 → ∀ b, b < 28 → a ≠ b → (mw_F11 a).2.1 ≠ (mw_F11 b).2.1 := by decide +kernel
theorem mw_o11 : ∀ k, k < 28 → parseFieldDescriptor (mw_F11 k).2.2.1 = some (mw_t11 k) := by decide +kernel
set_option maxRecDepth 20000 in
theorem mw_i11 : ∀ w ∈ u_ws "LinkedCores$Core" mw_F11 28, w ∈ mw_good := mw_mem_of [863, 865, 867, 869, 871, 873, 875, 877, 879, 881, 883, 885, 887, 889, 891, 893, 895, 897, 899, 901, 903, 905, 907, 909, 911, 913, 915, 917] (by decide +kernel) (by decide +kernel)
def mw_F12 : u_T := fun k => match k with
  | 0 => ("LinkedCores$Line", "all", "[I", true)
  | 1 => ("LinkedCores$Line", "first", "I", false)
  | _ => ("LinkedCores$Line", "count", "I", false)
def mw_t12 : Nat → FieldType := fun k => match k with
  | 0 => (.array .int)
  | 1 => .int
  | _ => .int
theorem mw_n12 : ∀ a, a < 3 → ∀ b, b < 3 → a ≠ b → (mw_F12 a).2.1 ≠ (mw_F12 b).2.1 := by decide +kernel
theorem mw_o12 : ∀ k, k < 3 → parseFieldDescriptor (mw_F12 k).2.2.1 = some (mw_t12 k) := by decide +kernel
set_option maxRecDepth 20000 in
theorem mw_i12 : ∀ w ∈ u_ws "LinkedCores$Line" mw_F12 3, w ∈ mw_good := mw_mem_of [810, 812, 814] (by decide +kernel) (by decide +kernel)
def mw_F13 : u_T := fun k => match k with
  | 0 => ("LinkedCoresModel", "thrown", "I", false)
  | 1 => ("LinkedCoresModel", "text", "[I", true)
  | 2 => ("LinkedCoresModel", "size", "I", false)
  | 3 => ("LinkedCoresModel", "lines", "I", false)
  | 4 => ("LinkedCoresModel", "lineNo", "[I", true)
  | 5 => ("LinkedCoresModel", "lineStart", "[I", true)
  | 6 => ("LinkedCoresModel", "lineFirst", "[I", true)
  | 7 => ("LinkedCoresModel", "lineEnd", "[I", true)
  | 8 => ("LinkedCoresModel", "lineLevel", "[I", true)
  | 9 => ("LinkedCoresModel", "ln", "I", false)
  | 10 => ("LinkedCoresModel", "at", "I", false)
  | 11 => ("LinkedCoresModel", "tk", "I", false)
  | 12 => ("LinkedCoresModel", "tkAt", "I", false)
  | 13 => ("LinkedCoresModel", "tkNum", "I", false)
  | 14 => ("LinkedCoresModel", "tkName", "J", false)
  | 15 => ("LinkedCoresModel", "opened", "I", false)
  | 16 => ("LinkedCoresModel", "faultKind", "I", false)
  | 17 => ("LinkedCoresModel", "faultLine", "I", false)
  | 18 => ("LinkedCoresModel", "faultPlace", "I", false)
  | 19 => ("LinkedCoresModel", "syms", "I", false)
  | 20 => ("LinkedCoresModel", "syName", "[J", true)
  | 21 => ("LinkedCoresModel", "syKind", "[I", true)
  | 22 => ("LinkedCoresModel", "sySize", "[I", true)
  | 23 => ("LinkedCoresModel", "syWord", "[I", true)
  | 24 => ("LinkedCoresModel", "syLevel", "[I", true)
  | 25 => ("LinkedCoresModel", "syUse", "[I", true)
  | 26 => ("LinkedCoresModel", "syNumber", "[I", true)
  | 27 => ("LinkedCoresModel", "syNow", "[I", true)
  | 28 => ("LinkedCoresModel", "names", "I", false)
  | 29 => ("LinkedCoresModel", "visible", "I", false)
  | 30 => ("LinkedCoresModel", "seen", "[I", true)
  | 31 => ("LinkedCoresModel", "nodes", "I", false)
  | 32 => ("LinkedCoresModel", "nKind", "[I", true)
  | 33 => ("LinkedCoresModel", "nLine", "[I", true)
  | 34 => ("LinkedCoresModel", "nA", "[I", true)
  | 35 => ("LinkedCoresModel", "nB", "[I", true)
  | 36 => ("LinkedCoresModel", "nC", "[I", true)
  | 37 => ("LinkedCoresModel", "nD", "[I", true)
  | 38 => ("LinkedCoresModel", "nFirst", "[I", true)
  | 39 => ("LinkedCoresModel", "nNext", "[I", true)
  | 40 => ("LinkedCoresModel", "nDecl", "[I", true)
  | 41 => ("LinkedCoresModel", "nDecls", "[I", true)
  | 42 => ("LinkedCoresModel", "nWord", "[I", true)
  | 43 => ("LinkedCoresModel", "nSize", "[I", true)
  | 44 => ("LinkedCoresModel", "nDepth", "[I", true)
  | 45 => ("LinkedCoresModel", "nMark", "[I", true)
  | 46 => ("LinkedCoresModel", "procs", "I", false)
  | 47 => ("LinkedCoresModel", "prParam", "[I", true)
  | 48 => ("LinkedCoresModel", "prParams", "[I", true)
  | 49 => ("LinkedCoresModel", "prBody", "[I", true)
  | 50 => ("LinkedCoresModel", "prSize", "[I", true)
  | 51 => ("LinkedCoresModel", "prDepth", "[I", true)
  | 52 => ("LinkedCoresModel", "links", "I", false)
  | 53 => ("LinkedCoresModel", "lkFrom", "[I", true)
  | 54 => ("LinkedCoresModel", "lkTo", "[I", true)
  | 55 => ("LinkedCoresModel", "psBody", "[I", true)
  | 56 => ("LinkedCoresModel", "psSize", "[I", true)
  | 57 => ("LinkedCoresModel", "psDepth", "[I", true)
  | 58 => ("LinkedCoresModel", "program", "Z", false)
  | 59 => ("LinkedCoresModel", "most", "I", false)
  | 60 => ("LinkedCoresModel", "level", "I", false)
  | 61 => ("LinkedCoresModel", "uses", "I", false)
  | 62 => ("LinkedCoresModel", "usesFrom", "I", false)
  | 63 => ("LinkedCoresModel", "usSym", "[I", true)
  | 64 => ("LinkedCoresModel", "usElem", "[I", true)
  | 65 => ("LinkedCoresModel", "usAll", "[Z", true)
  | 66 => ("LinkedCoresModel", "usDone", "[I", true)
  | 67 => ("LinkedCoresModel", "worstLine", "I", false)
  | 68 => ("LinkedCoresModel", "where", "I", false)
  | 69 => ("LinkedCoresModel", "branchFrom", "[I", true)
  | 70 => ("LinkedCoresModel", "steps", "I", false)
  | 71 => ("LinkedCoresModel", "inFn", "[I", true)
  | 72 => ("LinkedCoresModel", "inVal", "[I", true)
  | 73 => ("LinkedCoresModel", "inTo", "[I", true)
  | 74 => ("LinkedCoresModel", "inFrom", "[I", true)
  | 75 => ("LinkedCoresModel", "inLen", "[I", true)
  | 76 => ("LinkedCoresModel", "inAt", "[I", true)
  | 77 => ("LinkedCoresModel", "labels", "I", false)
  | 78 => ("LinkedCoresModel", "laStep", "[I", true)
  | 79 => ("LinkedCoresModel", "long0", "Z", false)
  | 80 => ("LinkedCoresModel", "frameAt", "[I", true)
  | 81 => ("LinkedCoresModel", "now", "I", false)
  | 82 => ("LinkedCoresModel", "prLabel", "[I", true)
  | 83 => ("LinkedCoresModel", "code", "[I", true)
  | 84 => ("LinkedCoresModel", "codeSize", "[I", true)
  | 85 => ("LinkedCoresModel", "codeBegin", "[I", true)
  | 86 => ("LinkedCoresModel", "parStart", "[I", true)
  | 87 => ("LinkedCoresModel", "parLies", "[I", true)
  | 88 => ("LinkedCoresModel", "altStart", "[I", true)
  | 89 => ("LinkedCoresModel", "alts", "I", false)
  | 90 => ("LinkedCoresModel", "memory", "[I", true)
  | 91 => ("LinkedCoresModel", "rA", "[I", true)
  | 92 => ("LinkedCoresModel", "rB", "[I", true)
  | 93 => ("LinkedCoresModel", "rC", "[I", true)
  | 94 => ("LinkedCoresModel", "rI", "[I", true)
  | 95 => ("LinkedCoresModel", "rW", "[I", true)
  | 96 => ("LinkedCoresModel", "rO", "[I", true)
  | 97 => ("LinkedCoresModel", "runs", "[I", true)
  | 98 => ("LinkedCoresModel", "error", "[Z", true)
  | 99 => ("LinkedCoresModel", "done", "[Z", true)
  | 100 => ("LinkedCoresModel", "bytesDone", "[I", true)
  | 101 => ("LinkedCoresModel", "since", "[I", true)
  | 102 => ("LinkedCoresModel", "ready", "[I", true)
  | 103 => ("LinkedCoresModel", "readyMany", "[I", true)
  | 104 => ("LinkedCoresModel", "kept", "[Z", true)
  | 105 => ("LinkedCoresModel", "kA", "[I", true)
  | 106 => ("LinkedCoresModel", "kB", "[I", true)
  | 107 => ("LinkedCoresModel", "kC", "[I", true)
  | 108 => ("LinkedCoresModel", "kO", "[I", true)
  | 109 => ("LinkedCoresModel", "inputs", "[I", true)
  | 110 => ("LinkedCoresModel", "inputMany", "I", false)
  | 111 => ("LinkedCoresModel", "inputTaken", "I", false)
  | 112 => ("LinkedCoresModel", "outputs", "[I", true)
  | 113 => ("LinkedCoresModel", "outputMany", "I", false)
  | 114 => ("LinkedCoresModel", "sending", "[Z", true)
  | 115 => ("LinkedCoresModel", "lkWord", "[I", true)
  | 116 => ("LinkedCoresModel", "lkSent", "[I", true)
  | 117 => ("LinkedCoresModel", "lkCame", "[I", true)
  | 118 => ("LinkedCoresModel", "lkDue", "[Z", true)
  | 119 => ("LinkedCoresModel", "mayGo", "[Z", true)
  | 120 => ("LinkedCoresModel", "beats", "I", false)
  | _ => ("LinkedCoresModel", "packets", "I", false)
def mw_t13 : Nat → FieldType := fun k => match k with
  | 0 => .int
  | 1 => (.array .int)
  | 2 => .int
  | 3 => .int
  | 4 => (.array .int)
  | 5 => (.array .int)
  | 6 => (.array .int)
  | 7 => (.array .int)
  | 8 => (.array .int)
  | 9 => .int
  | 10 => .int
  | 11 => .int
  | 12 => .int
  | 13 => .int
  | 14 => .long
  | 15 => .int
  | 16 => .int
  | 17 => .int
  | 18 => .int
  | 19 => .int
  | 20 => (.array .long)
  | 21 => (.array .int)
  | 22 => (.array .int)
  | 23 => (.array .int)
  | 24 => (.array .int)
  | 25 => (.array .int)
  | 26 => (.array .int)
  | 27 => (.array .int)
  | 28 => .int
  | 29 => .int
  | 30 => (.array .int)
  | 31 => .int
  | 32 => (.array .int)
  | 33 => (.array .int)
  | 34 => (.array .int)
  | 35 => (.array .int)
  | 36 => (.array .int)
  | 37 => (.array .int)
  | 38 => (.array .int)
  | 39 => (.array .int)
  | 40 => (.array .int)
  | 41 => (.array .int)
  | 42 => (.array .int)
  | 43 => (.array .int)
  | 44 => (.array .int)
  | 45 => (.array .int)
  | 46 => .int
  | 47 => (.array .int)
  | 48 => (.array .int)
  | 49 => (.array .int)
  | 50 => (.array .int)
  | 51 => (.array .int)
  | 52 => .int
  | 53 => (.array .int)
  | 54 => (.array .int)
  | 55 => (.array .int)
  | 56 => (.array .int)
  | 57 => (.array .int)
  | 58 => .boolean
  | 59 => .int
  | 60 => .int
  | 61 => .int
  | 62 => .int
  | 63 => (.array .int)
  | 64 => (.array .int)
  | 65 => (.array .boolean)
  | 66 => (.array .int)
  | 67 => .int
  | 68 => .int
  | 69 => (.array .int)
  | 70 => .int
  | 71 => (.array .int)
  | 72 => (.array .int)
  | 73 => (.array .int)
  | 74 => (.array .int)
  | 75 => (.array .int)
  | 76 => (.array .int)
  | 77 => .int
  | 78 => (.array .int)
  | 79 => .boolean
  | 80 => (.array .int)
  | 81 => .int
  | 82 => (.array .int)
  | 83 => (.array .int)
  | 84 => (.array .int)
  | 85 => (.array .int)
  | 86 => (.array .int)
  | 87 => (.array .int)
  | 88 => (.array .int)
  | 89 => .int
  | 90 => (.array .int)
  | 91 => (.array .int)
  | 92 => (.array .int)
  | 93 => (.array .int)
  | 94 => (.array .int)
  | 95 => (.array .int)
  | 96 => (.array .int)
  | 97 => (.array .int)
  | 98 => (.array .boolean)
  | 99 => (.array .boolean)
  | 100 => (.array .int)
  | 101 => (.array .int)
  | 102 => (.array .int)
  | 103 => (.array .int)
  | 104 => (.array .boolean)
  | 105 => (.array .int)
  | 106 => (.array .int)
  | 107 => (.array .int)
  | 108 => (.array .int)
  | 109 => (.array .int)
  | 110 => .int
  | 111 => .int
  | 112 => (.array .int)
  | 113 => .int
  | 114 => (.array .boolean)
  | 115 => (.array .int)
  | 116 => (.array .int)
  | 117 => (.array .int)
  | 118 => (.array .boolean)
  | 119 => (.array .boolean)
  | 120 => .int
  | _ => .int
theorem mw_n13 : ∀ a, a < 122 → ∀ b, b < 122 → a ≠ b → (mw_F13 a).2.1 ≠ (mw_F13 b).2.1 := by decide +kernel
theorem mw_o13 : ∀ k, k < 122 → parseFieldDescriptor (mw_F13 k).2.2.1 = some (mw_t13 k) := by decide +kernel
set_option maxRecDepth 20000 in
theorem mw_i13 : ∀ w ∈ u_ws "LinkedCoresModel" mw_F13 122, w ∈ mw_good := mw_mem_of [2298, 2300, 2302, 2304, 2306, 2308, 2310, 2312, 2314, 2316, 2318, 2320, 2322, 2324, 2326, 2328, 2330, 2332, 2334, 2336, 2338, 2340, 2342, 2344, 2346, 2348, 2350, 2352, 2354, 2356, 2358, 2360, 2362, 2364, 2366, 2368, 2370, 2372, 2374, 2376, 2378, 2380, 2382, 2384, 2386, 2388, 2390, 2392, 2394, 2396, 2398, 2400, 2402, 2404, 2406, 2408, 2410, 2412, 2414, 2416, 2418, 2420, 2422, 2424, 2426, 2428, 2430, 2432, 2434, 2436, 2438, 2440, 2442, 2444, 2446, 2448, 2450, 2452, 2454, 2456, 2458, 2460, 2462, 2464, 2466, 2468, 2470, 2472, 2474, 2476, 2478, 2480, 2482, 2484, 2486, 2488, 2490, 2492, 2494, 2496, 2498, 2500, 2502, 2504, 2506, 2508, 2510, 2512, 2514, 2516, 2518, 2520, 2522, 2524, 2526, 2528, 2530, 2532, 2534, 2536, 2538, 2540] (by decide +kernel) (by decide +kernel)
def mw_cl : List vw_C := [("LinkedCores", mw_F1, 16), ("LinkedCores$Text", mw_F2, 2), ("LinkedCores$Tree", mw_F3, 29), ("LinkedCores$Reader", mw_F4, 8), ("LinkedCores$Lexer", mw_F5, 17), ("LinkedCores$Measure", mw_F6, 1), ("LinkedCores$Uses", mw_F7, 13), ("LinkedCores$Coder", mw_F8, 16), ("LinkedCores$Host", mw_F9, 5), ("LinkedCores$Link", mw_F10, 6), ("LinkedCores$Core", mw_F11, 28), ("LinkedCores$Line", mw_F12, 3), ("LinkedCoresModel", mw_F13, 122)]
def mw_y_0_0_0 (mi : Nat) : MethodName := bif Nat.ble mi 1 then (bif Nat.ble mi 0 then (bif Nat.beq mi 0 then ⟨"LinkedCores", "is", "(JJJ)Z"⟩ else ⟨"", "", ""⟩) else (bif Nat.beq mi 1 then ⟨"LinkedCores", "isDigit", "(I)Z"⟩ else ⟨"", "", ""⟩)) else (bif Nat.ble mi 2 then (bif Nat.beq mi 2 then ⟨"LinkedCores", "isSmall", "(I)Z"⟩ else ⟨"", "", ""⟩) else (bif Nat.ble mi 3 then (bif Nat.beq mi 3 then ⟨"LinkedCores", "isCapital", "(I)Z"⟩ else ⟨"", "", ""⟩) else (bif Nat.beq mi 4 then ⟨"LinkedCores", "two", "(II)I"⟩ else ⟨"", "", ""⟩)))
def mw_y_0_0_1 (mi : Nat) : MethodName := bif Nat.ble mi 6 then (bif Nat.ble mi 5 then (bif Nat.beq mi 5 then ⟨"LinkedCores", "need", "(Z)V"⟩ else ⟨"", "", ""⟩) else (bif Nat.beq mi 6 then ⟨"LinkedCores", "in", "(Z)V"⟩ else ⟨"", "", ""⟩)) else (bif Nat.ble mi 7 then (bif Nat.beq mi 7 then ⟨"LinkedCores", "must", "()V"⟩ else ⟨"", "", ""⟩) else (bif Nat.ble mi 8 then (bif Nat.beq mi 8 then ⟨"LinkedCores", "coreOf", "(I)LLinkedCores$Core;"⟩ else ⟨"", "", ""⟩) else (bif Nat.beq mi 9 then ⟨"LinkedCores", "put", "(I)I"⟩ else ⟨"", "", ""⟩)))
def mw_y_0_0 (mi : Nat) : MethodName := bif Nat.ble mi 4 then (mw_y_0_0_0 mi) else (mw_y_0_0_1 mi)
def mw_y_0_1_0 (mi : Nat) : MethodName := bif Nat.ble mi 11 then (bif Nat.ble mi 10 then (bif Nat.beq mi 10 then ⟨"LinkedCores", "end", "(I)V"⟩ else ⟨"", "", ""⟩) else (bif Nat.beq mi 11 then ⟨"LinkedCores", "tell", "(III)V"⟩ else ⟨"", "", ""⟩)) else (bif Nat.ble mi 12 then (bif Nat.beq mi 12 then ⟨"LinkedCores", "compile", "()I"⟩ else ⟨"", "", ""⟩) else (bif Nat.ble mi 13 then (bif Nat.beq mi 13 then ⟨"LinkedCores", "type", "(I)Z"⟩ else ⟨"", "", ""⟩) else (bif Nat.beq mi 14 then ⟨"LinkedCores", "fault", "(I)I"⟩ else ⟨"", "", ""⟩)))
def mw_y_0_1_1 (mi : Nat) : MethodName := bif Nat.ble mi 16 then (bif Nat.ble mi 15 then (bif Nat.beq mi 15 then ⟨"LinkedCores", "processor", "(II)I"⟩ else ⟨"", "", ""⟩) else (bif Nat.beq mi 16 then ⟨"LinkedCores", "code", "(II)I"⟩ else ⟨"", "", ""⟩)) else (bif Nat.ble mi 17 then (bif Nat.beq mi 17 then ⟨"LinkedCores", "instruction", "(III)I"⟩ else ⟨"", "", ""⟩) else (bif Nat.ble mi 18 then (bif Nat.beq mi 18 then ⟨"LinkedCores", "link", "(II)I"⟩ else ⟨"", "", ""⟩) else (bif Nat.beq mi 19 then ⟨"LinkedCores", "begin", "()V"⟩ else ⟨"", "", ""⟩)))
def mw_y_0_1 (mi : Nat) : MethodName := bif Nat.ble mi 14 then (mw_y_0_1_0 mi) else (mw_y_0_1_1 mi)
def mw_y_0_2_0 (mi : Nat) : MethodName := bif Nat.ble mi 21 then (bif Nat.ble mi 20 then (bif Nat.beq mi 20 then ⟨"LinkedCores", "input", "(I)I"⟩ else ⟨"", "", ""⟩) else (bif Nat.beq mi 21 then ⟨"LinkedCores", "run", "(II)I"⟩ else ⟨"", "", ""⟩)) else (bif Nat.ble mi 22 then (bif Nat.beq mi 22 then ⟨"LinkedCores", "beatOf", "(I)Z"⟩ else ⟨"", "", ""⟩) else (bif Nat.ble mi 23 then (bif Nat.beq mi 23 then ⟨"LinkedCores", "beatAll", "()I"⟩ else ⟨"", "", ""⟩) else (bif Nat.beq mi 24 then ⟨"LinkedCores", "beat", "(I)I"⟩ else ⟨"", "", ""⟩)))
def mw_y_0_2_1 (mi : Nat) : MethodName := bif Nat.ble mi 26 then (bif Nat.ble mi 25 then (bif Nat.beq mi 25 then ⟨"LinkedCores", "rounds", "(I)I"⟩ else ⟨"", "", ""⟩) else (bif Nat.beq mi 26 then ⟨"LinkedCores", "outcome", "()I"⟩ else ⟨"", "", ""⟩)) else (bif Nat.ble mi 27 then (bif Nat.beq mi 27 then ⟨"LinkedCores", "core", "(II)I"⟩ else ⟨"", "", ""⟩) else (bif Nat.ble mi 28 then (bif Nat.beq mi 28 then ⟨"LinkedCores", "register", "(LLinkedCores$Core;I)I"⟩ else ⟨"", "", ""⟩) else (bif Nat.beq mi 29 then ⟨"LinkedCores", "ready", "(II)I"⟩ else ⟨"", "", ""⟩)))
def mw_y_0_2 (mi : Nat) : MethodName := bif Nat.ble mi 24 then (mw_y_0_2_0 mi) else (mw_y_0_2_1 mi)
def mw_y_0_3_0 (mi : Nat) : MethodName := bif Nat.ble mi 31 then (bif Nat.ble mi 30 then (bif Nat.beq mi 30 then ⟨"LinkedCores", "word", "(II)I"⟩ else ⟨"", "", ""⟩) else (bif Nat.beq mi 31 then ⟨"LinkedCores", "output", "(I)I"⟩ else ⟨"", "", ""⟩)) else (bif Nat.ble mi 32 then (bif Nat.beq mi 32 then ⟨"LinkedCores", "about", "(I)I"⟩ else ⟨"", "", ""⟩) else (bif Nat.ble mi 33 then (bif Nat.beq mi 33 then ⟨"LinkedCores$Text", "get", "(I)I"⟩ else ⟨"", "", ""⟩) else (bif Nat.beq mi 34 then ⟨"LinkedCores$Tree", "clear", "()V"⟩ else ⟨"", "", ""⟩)))
def mw_y_0_3_1 (mi : Nat) : MethodName := bif Nat.ble mi 36 then (bif Nat.ble mi 35 then (bif Nat.beq mi 35 then ⟨"LinkedCores$Tree", "add", "(LLinkedCores$What;I)I"⟩ else ⟨"", "", ""⟩) else (bif Nat.beq mi 36 then ⟨"LinkedCores$Reader", "good", "()Z"⟩ else ⟨"", "", ""⟩)) else (bif Nat.ble mi 37 then (bif Nat.beq mi 37 then ⟨"LinkedCores$Reader", "fail", "(III)V"⟩ else ⟨"", "", ""⟩) else (bif Nat.ble mi 38 then (bif Nat.beq mi 38 then ⟨"LinkedCores$Reader", "failAt", "(II)V"⟩ else ⟨"", "", ""⟩) else (bif Nat.beq mi 39 then ⟨"LinkedCores$Reader", "wrong", "()V"⟩ else ⟨"", "", ""⟩)))
def mw_y_0_3 (mi : Nat) : MethodName := bif Nat.ble mi 34 then (mw_y_0_3_0 mi) else (mw_y_0_3_1 mi)
def mw_y_0_4_0 (mi : Nat) : MethodName := bif Nat.ble mi 41 then (bif Nat.ble mi 40 then (bif Nat.beq mi 40 then ⟨"LinkedCores$Reader", "take", "(Z)V"⟩ else ⟨"", "", ""⟩) else (bif Nat.beq mi 41 then ⟨"LinkedCores$Reader", "take", "(I)V"⟩ else ⟨"", "", ""⟩)) else (bif Nat.ble mi 42 then (bif Nat.beq mi 42 then ⟨"LinkedCores$Reader", "takeWord", "(LLinkedCores$Word;)V"⟩ else ⟨"", "", ""⟩) else (bif Nat.ble mi 43 then (bif Nat.beq mi 43 then ⟨"LinkedCores$Reader", "takeNumber", "(II)I"⟩ else ⟨"", "", ""⟩) else (bif Nat.beq mi 44 then ⟨"LinkedCores$Reader", "endLine", "()V"⟩ else ⟨"", "", ""⟩)))
def mw_y_0_4_1 (mi : Nat) : MethodName := bif Nat.ble mi 46 then (bif Nat.ble mi 45 then (bif Nat.beq mi 45 then ⟨"LinkedCores$Reader", "isAt", "(I)Z"⟩ else ⟨"", "", ""⟩) else (bif Nat.beq mi 46 then ⟨"LinkedCores$Reader", "needLevel", "(I)V"⟩ else ⟨"", "", ""⟩)) else (bif Nat.ble mi 47 then (bif Nat.beq mi 47 then ⟨"LinkedCores$Reader", "find", "(JJ)I"⟩ else ⟨"", "", ""⟩) else (bif Nat.ble mi 48 then (bif Nat.beq mi 48 then ⟨"LinkedCores$Reader", "newName", "(JJLLinkedCores$Sort;II)I"⟩ else ⟨"", "", ""⟩) else (bif Nat.beq mi 49 then ⟨"LinkedCores$Reader", "see", "(I)V"⟩ else ⟨"", "", ""⟩)))
def mw_y_0_4 (mi : Nat) : MethodName := bif Nat.ble mi 44 then (mw_y_0_4_0 mi) else (mw_y_0_4_1 mi)
def mw_y_0_5_0 (mi : Nat) : MethodName := bif Nat.ble mi 51 then (bif Nat.ble mi 50 then (bif Nat.beq mi 50 then ⟨"LinkedCores$Reader", "isSince", "(IJJ)Z"⟩ else ⟨"", "", ""⟩) else (bif Nat.beq mi 51 then ⟨"LinkedCores$Reader", "takeNew", "(ILLinkedCores$Sort;I)I"⟩ else ⟨"", "", ""⟩)) else (bif Nat.ble mi 52 then (bif Nat.beq mi 52 then ⟨"LinkedCores$Reader", "takeGlobal", "(LLinkedCores$Sort;II)I"⟩ else ⟨"", "", ""⟩) else (bif Nat.ble mi 53 then (bif Nat.beq mi 53 then ⟨"LinkedCores$Reader", "isGlobal", "(JJ)Z"⟩ else ⟨"", "", ""⟩) else (bif Nat.beq mi 54 then ⟨"LinkedCores$Reader", "takeKnown", "()I"⟩ else ⟨"", "", ""⟩)))
def mw_y_0_5_1 (mi : Nat) : MethodName := bif Nat.ble mi 57 then (bif Nat.ble mi 55 then (bif Nat.beq mi 55 then ⟨"LinkedCores$Reader", "open", "()V"⟩ else ⟨"", "", ""⟩) else (bif Nat.ble mi 56 then (bif Nat.beq mi 56 then ⟨"LinkedCores$Reader", "isValue", "(LLinkedCores$Sort;)Z"⟩ else ⟨"", "", ""⟩) else (bif Nat.beq mi 57 then ⟨"LinkedCores$Reader", "isArray", "(LLinkedCores$Sort;)Z"⟩ else ⟨"", "", ""⟩))) else (bif Nat.ble mi 58 then (bif Nat.beq mi 58 then ⟨"LinkedCores$Reader", "isChannel", "(LLinkedCores$Sort;)Z"⟩ else ⟨"", "", ""⟩) else (bif Nat.ble mi 59 then (bif Nat.beq mi 59 then ⟨"LinkedCores$Reader", "thing", "(I)I"⟩ else ⟨"", "", ""⟩) else (bif Nat.beq mi 60 then ⟨"LinkedCores$Reader", "thingOf", "(III)I"⟩ else ⟨"", "", ""⟩)))
def mw_y_0_5 (mi : Nat) : MethodName := bif Nat.ble mi 54 then (mw_y_0_5_0 mi) else (mw_y_0_5_1 mi)
def mw_y_0 (mi : Nat) : MethodName := bif Nat.ble mi 29 then (bif Nat.ble mi 9 then (mw_y_0_0 mi) else (bif Nat.ble mi 19 then (mw_y_0_1 mi) else (mw_y_0_2 mi))) else (bif Nat.ble mi 39 then (mw_y_0_3 mi) else (bif Nat.ble mi 49 then (mw_y_0_4 mi) else (mw_y_0_5 mi)))
def mw_y_1_0_0 (mi : Nat) : MethodName := bif Nat.ble mi 62 then (bif Nat.ble mi 61 then (bif Nat.beq mi 61 then ⟨"LinkedCores$Reader", "sortOf", "(I)LLinkedCores$Sort;"⟩ else ⟨"", "", ""⟩) else (bif Nat.beq mi 62 then ⟨"LinkedCores$Reader", "needValue", "(I)V"⟩ else ⟨"", "", ""⟩)) else (bif Nat.ble mi 63 then (bif Nat.beq mi 63 then ⟨"LinkedCores$Reader", "needVariable", "(I)V"⟩ else ⟨"", "", ""⟩) else (bif Nat.ble mi 64 then (bif Nat.beq mi 64 then ⟨"LinkedCores$Reader", "needChannel", "(I)V"⟩ else ⟨"", "", ""⟩) else (bif Nat.beq mi 65 then ⟨"LinkedCores$Reader", "operand", "()I"⟩ else ⟨"", "", ""⟩)))
def mw_y_1_0_1 (mi : Nat) : MethodName := bif Nat.ble mi 67 then (bif Nat.ble mi 66 then (bif Nat.beq mi 66 then ⟨"LinkedCores$Reader", "isOperation", "()Z"⟩ else ⟨"", "", ""⟩) else (bif Nat.beq mi 67 then ⟨"LinkedCores$Reader", "expression", "()I"⟩ else ⟨"", "", ""⟩)) else (bif Nat.ble mi 68 then (bif Nat.beq mi 68 then ⟨"LinkedCores$Reader", "behind", "(I)I"⟩ else ⟨"", "", ""⟩) else (bif Nat.ble mi 69 then (bif Nat.beq mi 69 then ⟨"LinkedCores$Reader", "process", "(I)I"⟩ else ⟨"", "", ""⟩) else (bif Nat.beq mi 70 then ⟨"LinkedCores$Reader", "wrongProcess", "()I"⟩ else ⟨"", "", ""⟩)))
def mw_y_1_0 (mi : Nat) : MethodName := bif Nat.ble mi 65 then (mw_y_1_0_0 mi) else (mw_y_1_0_1 mi)
def mw_y_1_1_0 (mi : Nat) : MethodName := bif Nat.ble mi 72 then (bif Nat.ble mi 71 then (bif Nat.beq mi 71 then ⟨"LinkedCores$Reader", "declaration", "(I)I"⟩ else ⟨"", "", ""⟩) else (bif Nat.beq mi 72 then ⟨"LinkedCores$Reader", "statement", "()I"⟩ else ⟨"", "", ""⟩)) else (bif Nat.ble mi 73 then (bif Nat.beq mi 73 then ⟨"LinkedCores$Reader", "call", "(II)I"⟩ else ⟨"", "", ""⟩) else (bif Nat.ble mi 74 then (bif Nat.beq mi 74 then ⟨"LinkedCores$Reader", "argument", "(I)I"⟩ else ⟨"", "", ""⟩) else (bif Nat.beq mi 75 then ⟨"LinkedCores$Reader", "constructed", "(I)I"⟩ else ⟨"", "", ""⟩)))
def mw_y_1_1_1 (mi : Nat) : MethodName := bif Nat.ble mi 77 then (bif Nat.ble mi 76 then (bif Nat.beq mi 76 then ⟨"LinkedCores$Reader", "below", "(IIII)V"⟩ else ⟨"", "", ""⟩) else (bif Nat.beq mi 77 then ⟨"LinkedCores$Reader", "sequence", "(I)I"⟩ else ⟨"", "", ""⟩)) else (bif Nat.ble mi 78 then (bif Nat.beq mi 78 then ⟨"LinkedCores$Reader", "parallel", "(I)I"⟩ else ⟨"", "", ""⟩) else (bif Nat.ble mi 79 then (bif Nat.beq mi 79 then ⟨"LinkedCores$Reader", "priority", "(I)I"⟩ else ⟨"", "", ""⟩) else (bif Nat.beq mi 80 then ⟨"LinkedCores$Reader", "loop", "(I)I"⟩ else ⟨"", "", ""⟩)))
def mw_y_1_1 (mi : Nat) : MethodName := bif Nat.ble mi 75 then (mw_y_1_1_0 mi) else (mw_y_1_1_1 mi)
def mw_y_1_2_0 (mi : Nat) : MethodName := bif Nat.ble mi 82 then (bif Nat.ble mi 81 then (bif Nat.beq mi 81 then ⟨"LinkedCores$Reader", "choices", "(I)I"⟩ else ⟨"", "", ""⟩) else (bif Nat.beq mi 82 then ⟨"LinkedCores$Reader", "behindLast", "(III)I"⟩ else ⟨"", "", ""⟩)) else (bif Nat.ble mi 83 then (bif Nat.beq mi 83 then ⟨"LinkedCores$Reader", "alternative", "(I)I"⟩ else ⟨"", "", ""⟩) else (bif Nat.ble mi 84 then (bif Nat.beq mi 84 then ⟨"LinkedCores$Reader", "guard", "(I)V"⟩ else ⟨"", "", ""⟩) else (bif Nat.beq mi 85 then ⟨"LinkedCores$Reader", "parameters", "(I)V"⟩ else ⟨"", "", ""⟩)))
def mw_y_1_2_1 (mi : Nat) : MethodName := bif Nat.ble mi 88 then (bif Nat.ble mi 86 then (bif Nat.beq mi 86 then ⟨"LinkedCores$Reader", "procedure", "()V"⟩ else ⟨"", "", ""⟩) else (bif Nat.ble mi 87 then (bif Nat.beq mi 87 then ⟨"LinkedCores$Reader", "wire", "()V"⟩ else ⟨"", "", ""⟩) else (bif Nat.beq mi 88 then ⟨"LinkedCores$Reader", "placed", "()V"⟩ else ⟨"", "", ""⟩))) else (bif Nat.ble mi 89 then (bif Nat.beq mi 89 then ⟨"LinkedCores$Reader", "host", "(IJI)V"⟩ else ⟨"", "", ""⟩) else (bif Nat.ble mi 90 then (bif Nat.beq mi 90 then ⟨"LinkedCores$Reader", "pack", "(Ljava/lang/String;)J"⟩ else ⟨"", "", ""⟩) else (bif Nat.beq mi 91 then ⟨"LinkedCores$Reader", "read", "()V"⟩ else ⟨"", "", ""⟩)))
def mw_y_1_2 (mi : Nat) : MethodName := bif Nat.ble mi 85 then (mw_y_1_2_0 mi) else (mw_y_1_2_1 mi)
def mw_y_1_3_0 (mi : Nat) : MethodName := bif Nat.ble mi 93 then (bif Nat.ble mi 92 then (bif Nat.beq mi 92 then ⟨"LinkedCores$Lexer", "start", "()V"⟩ else ⟨"", "", ""⟩) else (bif Nat.beq mi 93 then ⟨"LinkedCores$Lexer", "get", "(I)I"⟩ else ⟨"", "", ""⟩)) else (bif Nat.ble mi 94 then (bif Nat.beq mi 94 then ⟨"LinkedCores$Lexer", "nextLine", "()V"⟩ else ⟨"", "", ""⟩) else (bif Nat.ble mi 95 then (bif Nat.beq mi 95 then ⟨"LinkedCores$Lexer", "step", "()V"⟩ else ⟨"", "", ""⟩) else (bif Nat.beq mi 96 then ⟨"LinkedCores$Lexer", "takeName", "()V"⟩ else ⟨"", "", ""⟩)))
def mw_y_1_3_1 (mi : Nat) : MethodName := bif Nat.ble mi 98 then (bif Nat.ble mi 97 then (bif Nat.beq mi 97 then ⟨"LinkedCores$Lexer", "takeWord", "()V"⟩ else ⟨"", "", ""⟩) else (bif Nat.beq mi 98 then ⟨"LinkedCores$Lexer", "takeNumber", "()V"⟩ else ⟨"", "", ""⟩)) else (bif Nat.ble mi 99 then (bif Nat.beq mi 99 then ⟨"LinkedCores$Lexer", "takeSign", "(I)V"⟩ else ⟨"", "", ""⟩) else (bif Nat.ble mi 100 then (bif Nat.beq mi 100 then ⟨"LinkedCores$Lexer", "is", "(I)Z"⟩ else ⟨"", "", ""⟩) else (bif Nat.beq mi 101 then ⟨"LinkedCores$Lexer", "is", "(LLinkedCores$Word;)Z"⟩ else ⟨"", "", ""⟩)))
def mw_y_1_3 (mi : Nat) : MethodName := bif Nat.ble mi 96 then (mw_y_1_3_0 mi) else (mw_y_1_3_1 mi)
def mw_y_1_4_0 (mi : Nat) : MethodName := bif Nat.ble mi 103 then (bif Nat.ble mi 102 then (bif Nat.beq mi 102 then ⟨"LinkedCores$Measure", "isSimple", "(LLinkedCores$Tree;I)Z"⟩ else ⟨"", "", ""⟩) else (bif Nat.beq mi 103 then ⟨"LinkedCores$Measure", "expression", "(I)I"⟩ else ⟨"", "", ""⟩)) else (bif Nat.ble mi 104 then (bif Nat.beq mi 104 then ⟨"LinkedCores$Measure", "least", "(J)I"⟩ else ⟨"", "", ""⟩) else (bif Nat.ble mi 105 then (bif Nat.beq mi 105 then ⟨"LinkedCores$Measure", "block", "(I)I"⟩ else ⟨"", "", ""⟩) else (bif Nat.beq mi 106 then ⟨"LinkedCores$Measure", "put", "(III)V"⟩ else ⟨"", "", ""⟩)))
def mw_y_1_4_1 (mi : Nat) : MethodName := bif Nat.ble mi 108 then (bif Nat.ble mi 107 then (bif Nat.beq mi 107 then ⟨"LinkedCores$Measure", "measure", "(I)V"⟩ else ⟨"", "", ""⟩) else (bif Nat.beq mi 108 then ⟨"LinkedCores$Measure", "guards", "(I)V"⟩ else ⟨"", "", ""⟩)) else (bif Nat.ble mi 109 then (bif Nat.beq mi 109 then ⟨"LinkedCores$Measure", "all", "()Z"⟩ else ⟨"", "", ""⟩) else (bif Nat.ble mi 110 then (bif Nat.beq mi 110 then ⟨"LinkedCores$Uses", "against", "(I)V"⟩ else ⟨"", "", ""⟩) else (bif Nat.beq mi 111 then ⟨"LinkedCores$Uses", "use", "(IIZII)V"⟩ else ⟨"", "", ""⟩)))
def mw_y_1_4 (mi : Nat) : MethodName := bif Nat.ble mi 106 then (mw_y_1_4_0 mi) else (mw_y_1_4_1 mi)
def mw_y_1_5_0 (mi : Nat) : MethodName := bif Nat.ble mi 113 then (bif Nat.ble mi 112 then (bif Nat.beq mi 112 then ⟨"LinkedCores$Uses", "isConstant", "(I)Z"⟩ else ⟨"", "", ""⟩) else (bif Nat.beq mi 113 then ⟨"LinkedCores$Uses", "constant", "(I)I"⟩ else ⟨"", "", ""⟩)) else (bif Nat.ble mi 114 then (bif Nat.beq mi 114 then ⟨"LinkedCores$Uses", "thing", "(III)V"⟩ else ⟨"", "", ""⟩) else (bif Nat.ble mi 115 then (bif Nat.beq mi 115 then ⟨"LinkedCores$Uses", "wire", "(III)V"⟩ else ⟨"", "", ""⟩) else (bif Nat.beq mi 116 then ⟨"LinkedCores$Uses", "expression", "(II)V"⟩ else ⟨"", "", ""⟩)))
def mw_y_1_5_1 (mi : Nat) : MethodName := bif Nat.ble mi 119 then (bif Nat.ble mi 117 then (bif Nat.beq mi 117 then ⟨"LinkedCores$Uses", "meet", "(II)Z"⟩ else ⟨"", "", ""⟩) else (bif Nat.ble mi 118 then (bif Nat.beq mi 118 then ⟨"LinkedCores$Uses", "clash", "(II)Z"⟩ else ⟨"", "", ""⟩) else (bif Nat.beq mi 119 then ⟨"LinkedCores$Uses", "join", "(IIIZ)V"⟩ else ⟨"", "", ""⟩))) else (bif Nat.ble mi 120 then (bif Nat.beq mi 120 then ⟨"LinkedCores$Uses", "leave", "(III)V"⟩ else ⟨"", "", ""⟩) else (bif Nat.ble mi 121 then (bif Nat.beq mi 121 then ⟨"LinkedCores$Uses", "process", "(II)V"⟩ else ⟨"", "", ""⟩) else (bif Nat.beq mi 122 then ⟨"LinkedCores$Uses", "guards", "(II)V"⟩ else ⟨"", "", ""⟩)))
def mw_y_1_5 (mi : Nat) : MethodName := bif Nat.ble mi 116 then (mw_y_1_5_0 mi) else (mw_y_1_5_1 mi)
def mw_y_1 (mi : Nat) : MethodName := bif Nat.ble mi 91 then (bif Nat.ble mi 70 then (mw_y_1_0 mi) else (bif Nat.ble mi 80 then (mw_y_1_1 mi) else (mw_y_1_2 mi))) else (bif Nat.ble mi 101 then (mw_y_1_3 mi) else (bif Nat.ble mi 111 then (mw_y_1_4 mi) else (mw_y_1_5 mi)))
def mw_y_2_0_0 (mi : Nat) : MethodName := bif Nat.ble mi 124 then (bif Nat.ble mi 123 then (bif Nat.beq mi 123 then ⟨"LinkedCores$Uses", "call", "(II)V"⟩ else ⟨"", "", ""⟩) else (bif Nat.beq mi 124 then ⟨"LinkedCores$Uses", "argument", "(IIII)V"⟩ else ⟨"", "", ""⟩)) else (bif Nat.ble mi 125 then (bif Nat.beq mi 125 then ⟨"LinkedCores$Uses", "areOne", "(IIZ)Z"⟩ else ⟨"", "", ""⟩) else (bif Nat.ble mi 126 then (bif Nat.beq mi 126 then ⟨"LinkedCores$Uses", "look", "()I"⟩ else ⟨"", "", ""⟩) else (bif Nat.beq mi 127 then ⟨"LinkedCores$Coder", "emit", "(II)V"⟩ else ⟨"", "", ""⟩)))
def mw_y_2_0_1 (mi : Nat) : MethodName := bif Nat.ble mi 129 then (bif Nat.ble mi 128 then (bif Nat.beq mi 128 then ⟨"LinkedCores$Coder", "operate", "(I)V"⟩ else ⟨"", "", ""⟩) else (bif Nat.beq mi 129 then ⟨"LinkedCores$Coder", "way", "(IIII)V"⟩ else ⟨"", "", ""⟩)) else (bif Nat.ble mi 130 then (bif Nat.beq mi 130 then ⟨"LinkedCores$Coder", "label", "()I"⟩ else ⟨"", "", ""⟩) else (bif Nat.ble mi 131 then (bif Nat.beq mi 131 then ⟨"LinkedCores$Coder", "place", "(I)V"⟩ else ⟨"", "", ""⟩) else (bif Nat.beq mi 132 then ⟨"LinkedCores$Coder", "jump", "(II)V"⟩ else ⟨"", "", ""⟩)))
def mw_y_2_0 (mi : Nat) : MethodName := bif Nat.ble mi 127 then (mw_y_2_0_0 mi) else (mw_y_2_0_1 mi)
def mw_y_2_1_0 (mi : Nat) : MethodName := bif Nat.ble mi 134 then (bif Nat.ble mi 133 then (bif Nat.beq mi 133 then ⟨"LinkedCores$Coder", "length", "(I)I"⟩ else ⟨"", "", ""⟩) else (bif Nat.beq mi 134 then ⟨"LinkedCores$Coder", "at", "(I)I"⟩ else ⟨"", "", ""⟩)) else (bif Nat.ble mi 135 then (bif Nat.beq mi 135 then ⟨"LinkedCores$Coder", "give", "(II)V"⟩ else ⟨"", "", ""⟩) else (bif Nat.ble mi 136 then (bif Nat.beq mi 136 then ⟨"LinkedCores$Coder", "address", "(I)V"⟩ else ⟨"", "", ""⟩) else (bif Nat.beq mi 137 then ⟨"LinkedCores$Coder", "expression", "(I)V"⟩ else ⟨"", "", ""⟩)))
def mw_y_2_1_1 (mi : Nat) : MethodName := bif Nat.ble mi 139 then (bif Nat.ble mi 138 then (bif Nat.beq mi 138 then ⟨"LinkedCores$Coder", "value", "(I)V"⟩ else ⟨"", "", ""⟩) else (bif Nat.beq mi 139 then ⟨"LinkedCores$Coder", "binary", "(I)V"⟩ else ⟨"", "", ""⟩)) else (bif Nat.ble mi 140 then (bif Nat.beq mi 140 then ⟨"LinkedCores$Coder", "sign", "(I)V"⟩ else ⟨"", "", ""⟩) else (bif Nat.ble mi 141 then (bif Nat.beq mi 141 then ⟨"LinkedCores$Coder", "compare", "(I)V"⟩ else ⟨"", "", ""⟩) else (bif Nat.beq mi 142 then ⟨"LinkedCores$Coder", "process", "(I)V"⟩ else ⟨"", "", ""⟩)))
def mw_y_2_1 (mi : Nat) : MethodName := bif Nat.ble mi 137 then (mw_y_2_1_0 mi) else (mw_y_2_1_1 mi)
def mw_y_2_2_0 (mi : Nat) : MethodName := bif Nat.ble mi 144 then (bif Nat.ble mi 143 then (bif Nat.beq mi 143 then ⟨"LinkedCores$Coder", "declare", "(I)V"⟩ else ⟨"", "", ""⟩) else (bif Nat.beq mi 144 then ⟨"LinkedCores$Coder", "assign", "(I)V"⟩ else ⟨"", "", ""⟩)) else (bif Nat.ble mi 145 then (bif Nat.beq mi 145 then ⟨"LinkedCores$Coder", "call", "(I)V"⟩ else ⟨"", "", ""⟩) else (bif Nat.ble mi 146 then (bif Nat.beq mi 146 then ⟨"LinkedCores$Coder", "counted", "(I)V"⟩ else ⟨"", "", ""⟩) else (bif Nat.beq mi 147 then ⟨"LinkedCores$Coder", "loop", "(I)V"⟩ else ⟨"", "", ""⟩)))
def mw_y_2_2_1 (mi : Nat) : MethodName := bif Nat.ble mi 149 then (bif Nat.ble mi 148 then (bif Nat.beq mi 148 then ⟨"LinkedCores$Coder", "choices", "(I)V"⟩ else ⟨"", "", ""⟩) else (bif Nat.beq mi 149 then ⟨"LinkedCores$Coder", "block", "(I)I"⟩ else ⟨"", "", ""⟩)) else (bif Nat.ble mi 150 then (bif Nat.beq mi 150 then ⟨"LinkedCores$Coder", "branchCount", "(I)I"⟩ else ⟨"", "", ""⟩) else (bif Nat.ble mi 151 then (bif Nat.beq mi 151 then ⟨"LinkedCores$Coder", "parallel", "(I)V"⟩ else ⟨"", "", ""⟩) else (bif Nat.beq mi 152 then ⟨"LinkedCores$Coder", "code", "(I)V"⟩ else ⟨"", "", ""⟩)))
def mw_y_2_2 (mi : Nat) : MethodName := bif Nat.ble mi 147 then (mw_y_2_2_0 mi) else (mw_y_2_2_1 mi)
def mw_y_2_3_0 (mi : Nat) : MethodName := bif Nat.ble mi 154 then (bif Nat.ble mi 153 then (bif Nat.beq mi 153 then ⟨"LinkedCores$Coder", "branch", "(III)V"⟩ else ⟨"", "", ""⟩) else (bif Nat.beq mi 154 then ⟨"LinkedCores$Coder", "alternative", "(I)V"⟩ else ⟨"", "", ""⟩)) else (bif Nat.ble mi 155 then (bif Nat.beq mi 155 then ⟨"LinkedCores$Coder", "begin", "(I)V"⟩ else ⟨"", "", ""⟩) else (bif Nat.ble mi 156 then (bif Nat.beq mi 156 then ⟨"LinkedCores$Coder", "type", "(I[B)I"⟩ else ⟨"", "", ""⟩) else (bif Nat.beq mi 157 then ⟨"LinkedCores$Coder", "settle", "()Z"⟩ else ⟨"", "", ""⟩)))
def mw_y_2_3_1 (mi : Nat) : MethodName := bif Nat.ble mi 159 then (bif Nat.ble mi 158 then (bif Nat.beq mi 158 then ⟨"LinkedCores$Coder", "find", "()V"⟩ else ⟨"", "", ""⟩) else (bif Nat.beq mi 159 then ⟨"LinkedCores$Coder", "wayOf", "(I)I"⟩ else ⟨"", "", ""⟩)) else (bif Nat.ble mi 160 then (bif Nat.beq mi 160 then ⟨"LinkedCores$Coder", "bytes", "([B)V"⟩ else ⟨"", "", ""⟩) else (bif Nat.ble mi 161 then (bif Nat.beq mi 161 then ⟨"LinkedCores$Host", "put", "(I)V"⟩ else ⟨"", "", ""⟩) else (bif Nat.beq mi 162 then ⟨"LinkedCores$Host", "has", "()Z"⟩ else ⟨"", "", ""⟩)))
def mw_y_2_3 (mi : Nat) : MethodName := bif Nat.ble mi 157 then (mw_y_2_3_0 mi) else (mw_y_2_3_1 mi)
def mw_y_2_4_0 (mi : Nat) : MethodName := bif Nat.ble mi 164 then (bif Nat.ble mi 163 then (bif Nat.beq mi 163 then ⟨"LinkedCores$Host", "take", "()I"⟩ else ⟨"", "", ""⟩) else (bif Nat.beq mi 164 then ⟨"LinkedCores$Link", "clear", "()V"⟩ else ⟨"", "", ""⟩)) else (bif Nat.ble mi 165 then (bif Nat.beq mi 165 then ⟨"LinkedCores$Link", "mayGo", "()Z"⟩ else ⟨"", "", ""⟩) else (bif Nat.ble mi 166 then (bif Nat.beq mi 166 then ⟨"LinkedCores$Link", "isWhole", "()Z"⟩ else ⟨"", "", ""⟩) else (bif Nat.beq mi 167 then ⟨"LinkedCores$Link", "taken", "()V"⟩ else ⟨"", "", ""⟩)))
def mw_y_2_4_1 (mi : Nat) : MethodName := bif Nat.ble mi 169 then (bif Nat.ble mi 168 then (bif Nat.beq mi 168 then ⟨"LinkedCores$Core", "begin", "()V"⟩ else ⟨"", "", ""⟩) else (bif Nat.beq mi 169 then ⟨"LinkedCores$Core", "start", "(IZ)V"⟩ else ⟨"", "", ""⟩)) else (bif Nat.ble mi 170 then (bif Nat.beq mi 170 then ⟨"LinkedCores$Core", "self", "()I"⟩ else ⟨"", "", ""⟩) else (bif Nat.ble mi 171 then (bif Nat.beq mi 171 then ⟨"LinkedCores$Core", "ready", "(I)V"⟩ else ⟨"", "", ""⟩) else (bif Nat.beq mi 172 then ⟨"LinkedCores$Core", "rest", "()V"⟩ else ⟨"", "", ""⟩)))
def mw_y_2_4 (mi : Nat) : MethodName := bif Nat.ble mi 167 then (mw_y_2_4_0 mi) else (mw_y_2_4_1 mi)
def mw_y_2_5_0 (mi : Nat) : MethodName := bif Nat.ble mi 174 then (bif Nat.ble mi 173 then (bif Nat.beq mi 173 then ⟨"LinkedCores$Core", "settle", "()V"⟩ else ⟨"", "", ""⟩) else (bif Nat.beq mi 174 then ⟨"LinkedCores$Core", "push", "(I)V"⟩ else ⟨"", "", ""⟩)) else (bif Nat.ble mi 175 then (bif Nat.beq mi 175 then ⟨"LinkedCores$Core", "pop", "()I"⟩ else ⟨"", "", ""⟩) else (bif Nat.ble mi 176 then (bif Nat.beq mi 176 then ⟨"LinkedCores$Core", "two", "(I)V"⟩ else ⟨"", "", ""⟩) else (bif Nat.beq mi 177 then ⟨"LinkedCores$Core", "fails", "()V"⟩ else ⟨"", "", ""⟩)))
def mw_y_2_5_1 (mi : Nat) : MethodName := bif Nat.ble mi 180 then (bif Nat.ble mi 178 then (bif Nat.beq mi 178 then ⟨"LinkedCores$Core", "step", "()V"⟩ else ⟨"", "", ""⟩) else (bif Nat.ble mi 179 then (bif Nat.beq mi 179 then ⟨"LinkedCores$Core", "direct", "(II)V"⟩ else ⟨"", "", ""⟩) else (bif Nat.beq mi 180 then ⟨"LinkedCores$Core", "operate", "(I)V"⟩ else ⟨"", "", ""⟩))) else (bif Nat.ble mi 181 then (bif Nat.beq mi 181 then ⟨"LinkedCores$Core", "divide", "(Z)V"⟩ else ⟨"", "", ""⟩) else (bif Nat.ble mi 182 then (bif Nat.beq mi 182 then ⟨"LinkedCores$Core", "schedule", "(I)V"⟩ else ⟨"", "", ""⟩) else (bif Nat.beq mi 183 then ⟨"LinkedCores$Core", "speak", "(I)V"⟩ else ⟨"", "", ""⟩)))
def mw_y_2_5 (mi : Nat) : MethodName := bif Nat.ble mi 177 then (mw_y_2_5_0 mi) else (mw_y_2_5_1 mi)
def mw_y_2 (mi : Nat) : MethodName := bif Nat.ble mi 152 then (bif Nat.ble mi 132 then (mw_y_2_0 mi) else (bif Nat.ble mi 142 then (mw_y_2_1 mi) else (mw_y_2_2 mi))) else (bif Nat.ble mi 162 then (mw_y_2_3 mi) else (bif Nat.ble mi 172 then (mw_y_2_4 mi) else (mw_y_2_5 mi)))
def mw_y_3_0_0 (mi : Nat) : MethodName := bif Nat.ble mi 185 then (bif Nat.ble mi 184 then (bif Nat.beq mi 184 then ⟨"LinkedCores$Core", "waitAt", "(II)V"⟩ else ⟨"", "", ""⟩) else (bif Nat.beq mi 185 then ⟨"LinkedCores$Core", "input", "(II)V"⟩ else ⟨"", "", ""⟩)) else (bif Nat.ble mi 186 then (bif Nat.beq mi 186 then ⟨"LinkedCores$Core", "output", "(II)V"⟩ else ⟨"", "", ""⟩) else (bif Nat.ble mi 187 then (bif Nat.beq mi 187 then ⟨"LinkedCores$Core", "wake", "(I)V"⟩ else ⟨"", "", ""⟩) else (bif Nat.beq mi 188 then ⟨"LinkedCores$Core", "sends", "(I)Z"⟩ else ⟨"", "", ""⟩)))
def mw_y_3_0_1 (mi : Nat) : MethodName := bif Nat.ble mi 190 then (bif Nat.ble mi 189 then (bif Nat.beq mi 189 then ⟨"LinkedCores$Core", "enable", "(I)V"⟩ else ⟨"", "", ""⟩) else (bif Nat.beq mi 190 then ⟨"LinkedCores$Core", "disable", "(III)V"⟩ else ⟨"", "", ""⟩)) else (bif Nat.ble mi 191 then (bif Nat.beq mi 191 then ⟨"LinkedCores$Core", "comes", "(II)Z"⟩ else ⟨"", "", ""⟩) else (bif Nat.ble mi 192 then (bif Nat.beq mi 192 then ⟨"LinkedCores$Line", "clear", "()V"⟩ else ⟨"", "", ""⟩) else (bif Nat.beq mi 193 then ⟨"LinkedCores$Line", "get", "(I)I"⟩ else ⟨"", "", ""⟩)))
def mw_y_3_0 (mi : Nat) : MethodName := bif Nat.ble mi 188 then (mw_y_3_0_0 mi) else (mw_y_3_0_1 mi)
def mw_y_3_1_0 (mi : Nat) : MethodName := bif Nat.ble mi 195 then (bif Nat.ble mi 194 then (bif Nat.beq mi 194 then ⟨"LinkedCores$Line", "add", "(I)V"⟩ else ⟨"", "", ""⟩) else (bif Nat.beq mi 195 then ⟨"LinkedCores$Line", "putAhead", "(I)V"⟩ else ⟨"", "", ""⟩)) else (bif Nat.ble mi 196 then (bif Nat.beq mi 196 then ⟨"LinkedCores$Line", "take", "()I"⟩ else ⟨"", "", ""⟩) else (bif Nat.ble mi 197 then (bif Nat.beq mi 197 then ⟨"LinkedCoresModel", "thrown", "()I"⟩ else ⟨"", "", ""⟩) else (bif Nat.beq mi 198 then ⟨"LinkedCoresModel", "refuse", "(ZZZ)Z"⟩ else ⟨"", "", ""⟩)))
def mw_y_3_1_1 (mi : Nat) : MethodName := bif Nat.ble mi 200 then (bif Nat.ble mi 199 then (bif Nat.beq mi 199 then ⟨"LinkedCoresModel", "in", "(III)Z"⟩ else ⟨"", "", ""⟩) else (bif Nat.beq mi 200 then ⟨"LinkedCoresModel", "isSign", "(I)Z"⟩ else ⟨"", "", ""⟩)) else (bif Nat.ble mi 201 then (bif Nat.beq mi 201 then ⟨"LinkedCoresModel", "put", "(I)I"⟩ else ⟨"", "", ""⟩) else (bif Nat.ble mi 202 then (bif Nat.beq mi 202 then ⟨"LinkedCoresModel", "end", "(I)V"⟩ else ⟨"", "", ""⟩) else (bif Nat.beq mi 203 then ⟨"LinkedCoresModel", "fail", "(II)V"⟩ else ⟨"", "", ""⟩)))
def mw_y_3_1 (mi : Nat) : MethodName := bif Nat.ble mi 198 then (mw_y_3_1_0 mi) else (mw_y_3_1_1 mi)
def mw_y_3_2_0 (mi : Nat) : MethodName := bif Nat.ble mi 205 then (bif Nat.ble mi 204 then (bif Nat.beq mi 204 then ⟨"LinkedCoresModel", "bad", "()Z"⟩ else ⟨"", "", ""⟩) else (bif Nat.beq mi 205 then ⟨"LinkedCoresModel", "findLines", "()V"⟩ else ⟨"", "", ""⟩)) else (bif Nat.ble mi 206 then (bif Nat.beq mi 206 then ⟨"LinkedCoresModel", "sign", "(I)I"⟩ else ⟨"", "", ""⟩) else (bif Nat.ble mi 207 then (bif Nat.beq mi 207 then ⟨"LinkedCoresModel", "isSmall", "(I)Z"⟩ else ⟨"", "", ""⟩) else (bif Nat.beq mi 208 then ⟨"LinkedCoresModel", "isBig", "(I)Z"⟩ else ⟨"", "", ""⟩)))
def mw_y_3_2_1 (mi : Nat) : MethodName := bif Nat.ble mi 211 then (bif Nat.ble mi 209 then (bif Nat.beq mi 209 then ⟨"LinkedCoresModel", "isDigit", "(I)Z"⟩ else ⟨"", "", ""⟩) else (bif Nat.ble mi 210 then (bif Nat.beq mi 210 then ⟨"LinkedCoresModel", "digit", "(I)J"⟩ else ⟨"", "", ""⟩) else (bif Nat.beq mi 211 then ⟨"LinkedCoresModel", "openLine", "()V"⟩ else ⟨"", "", ""⟩))) else (bif Nat.ble mi 212 then (bif Nat.beq mi 212 then ⟨"LinkedCoresModel", "next", "()V"⟩ else ⟨"", "", ""⟩) else (bif Nat.ble mi 213 then (bif Nat.beq mi 213 then ⟨"LinkedCoresModel", "nameToken", "()V"⟩ else ⟨"", "", ""⟩) else (bif Nat.beq mi 214 then ⟨"LinkedCoresModel", "nameOf", "(Ljava/lang/String;)J"⟩ else ⟨"", "", ""⟩)))
def mw_y_3_2 (mi : Nat) : MethodName := bif Nat.ble mi 208 then (mw_y_3_2_0 mi) else (mw_y_3_2_1 mi)
def mw_y_3_3_0 (mi : Nat) : MethodName := bif Nat.ble mi 216 then (bif Nat.ble mi 215 then (bif Nat.beq mi 215 then ⟨"LinkedCoresModel", "keyToken", "()V"⟩ else ⟨"", "", ""⟩) else (bif Nat.beq mi 216 then ⟨"LinkedCoresModel", "keyOf", "(J)I"⟩ else ⟨"", "", ""⟩)) else (bif Nat.ble mi 217 then (bif Nat.beq mi 217 then ⟨"LinkedCoresModel", "numberToken", "()V"⟩ else ⟨"", "", ""⟩) else (bif Nat.ble mi 218 then (bif Nat.beq mi 218 then ⟨"LinkedCoresModel", "pair", "(II)I"⟩ else ⟨"", "", ""⟩) else (bif Nat.beq mi 219 then ⟨"LinkedCoresModel", "signToken", "(I)V"⟩ else ⟨"", "", ""⟩)))
def mw_y_3_3_1 (mi : Nat) : MethodName := bif Nat.ble mi 221 then (bif Nat.ble mi 220 then (bif Nat.beq mi 220 then ⟨"LinkedCoresModel", "isKey", "(I)Z"⟩ else ⟨"", "", ""⟩) else (bif Nat.beq mi 221 then ⟨"LinkedCoresModel", "is", "(I)Z"⟩ else ⟨"", "", ""⟩)) else (bif Nat.ble mi 222 then (bif Nat.beq mi 222 then ⟨"LinkedCoresModel", "need", "(Z)V"⟩ else ⟨"", "", ""⟩) else (bif Nat.ble mi 223 then (bif Nat.beq mi 223 then ⟨"LinkedCoresModel", "endLine", "()V"⟩ else ⟨"", "", ""⟩) else (bif Nat.beq mi 224 then ⟨"LinkedCoresModel", "open", "()V"⟩ else ⟨"", "", ""⟩)))
def mw_y_3_3 (mi : Nat) : MethodName := bif Nat.ble mi 219 then (mw_y_3_3_0 mi) else (mw_y_3_3_1 mi)
def mw_y_3_4_0 (mi : Nat) : MethodName := bif Nat.ble mi 226 then (bif Nat.ble mi 225 then (bif Nat.beq mi 225 then ⟨"LinkedCoresModel", "needLevel", "(I)Z"⟩ else ⟨"", "", ""⟩) else (bif Nat.beq mi 226 then ⟨"LinkedCoresModel", "isBelow", "(I)Z"⟩ else ⟨"", "", ""⟩)) else (bif Nat.ble mi 227 then (bif Nat.beq mi 227 then ⟨"LinkedCoresModel", "find", "(J)I"⟩ else ⟨"", "", ""⟩) else (bif Nat.ble mi 228 then (bif Nat.beq mi 228 then ⟨"LinkedCoresModel", "show", "(I)V"⟩ else ⟨"", "", ""⟩) else (bif Nat.beq mi 229 then ⟨"LinkedCoresModel", "newName", "(II)I"⟩ else ⟨"", "", ""⟩)))
def mw_y_3_4_1 (mi : Nat) : MethodName := bif Nat.ble mi 231 then (bif Nat.ble mi 230 then (bif Nat.beq mi 230 then ⟨"LinkedCoresModel", "symbol", "(JII)I"⟩ else ⟨"", "", ""⟩) else (bif Nat.beq mi 231 then ⟨"LinkedCoresModel", "node", "(IIIII)I"⟩ else ⟨"", "", ""⟩)) else (bif Nat.ble mi 232 then (bif Nat.beq mi 232 then ⟨"LinkedCoresModel", "lookUp", "()I"⟩ else ⟨"", "", ""⟩) else (bif Nat.ble mi 233 then (bif Nat.beq mi 233 then ⟨"LinkedCoresModel", "isValue", "(I)Z"⟩ else ⟨"", "", ""⟩) else (bif Nat.beq mi 234 then ⟨"LinkedCoresModel", "isVariable", "(I)Z"⟩ else ⟨"", "", ""⟩)))
def mw_y_3_4 (mi : Nat) : MethodName := bif Nat.ble mi 229 then (mw_y_3_4_0 mi) else (mw_y_3_4_1 mi)
def mw_y_3_5_0 (mi : Nat) : MethodName := bif Nat.ble mi 236 then (bif Nat.ble mi 235 then (bif Nat.beq mi 235 then ⟨"LinkedCoresModel", "isArray", "(I)Z"⟩ else ⟨"", "", ""⟩) else (bif Nat.beq mi 236 then ⟨"LinkedCoresModel", "isChannel", "(I)Z"⟩ else ⟨"", "", ""⟩)) else (bif Nat.ble mi 237 then (bif Nat.beq mi 237 then ⟨"LinkedCoresModel", "readIndex", "()I"⟩ else ⟨"", "", ""⟩) else (bif Nat.ble mi 238 then (bif Nat.beq mi 238 then ⟨"LinkedCoresModel", "operationAt", "()I"⟩ else ⟨"", "", ""⟩) else (bif Nat.beq mi 239 then ⟨"LinkedCoresModel", "readE", "()I"⟩ else ⟨"", "", ""⟩)))
def mw_y_3_5_1 (mi : Nat) : MethodName := bif Nat.ble mi 242 then (bif Nat.ble mi 240 then (bif Nat.beq mi 240 then ⟨"LinkedCoresModel", "readRest", "(I)I"⟩ else ⟨"", "", ""⟩) else (bif Nat.ble mi 241 then (bif Nat.beq mi 241 then ⟨"LinkedCoresModel", "readOperand", "()I"⟩ else ⟨"", "", ""⟩) else (bif Nat.beq mi 242 then ⟨"LinkedCoresModel", "readValue", "(II)I"⟩ else ⟨"", "", ""⟩))) else (bif Nat.ble mi 243 then (bif Nat.beq mi 243 then ⟨"LinkedCoresModel", "readReference", "(Z)I"⟩ else ⟨"", "", ""⟩) else (bif Nat.ble mi 244 then (bif Nat.beq mi 244 then ⟨"LinkedCoresModel", "readBehind", "(IIZ)I"⟩ else ⟨"", "", ""⟩) else (bif Nat.beq mi 245 then ⟨"LinkedCoresModel", "readProcess", "(I)I"⟩ else ⟨"", "", ""⟩)))
def mw_y_3_5 (mi : Nat) : MethodName := bif Nat.ble mi 239 then (mw_y_3_5_0 mi) else (mw_y_3_5_1 mi)
def mw_y_3 (mi : Nat) : MethodName := bif Nat.ble mi 214 then (bif Nat.ble mi 193 then (mw_y_3_0 mi) else (bif Nat.ble mi 203 then (mw_y_3_1 mi) else (mw_y_3_2 mi))) else (bif Nat.ble mi 224 then (mw_y_3_3 mi) else (bif Nat.ble mi 234 then (mw_y_3_4 mi) else (mw_y_3_5 mi)))
def mw_y_4_0_0 (mi : Nat) : MethodName := bif Nat.ble mi 247 then (bif Nat.ble mi 246 then (bif Nat.beq mi 246 then ⟨"LinkedCoresModel", "needNumber", "(II)I"⟩ else ⟨"", "", ""⟩) else (bif Nat.beq mi 247 then ⟨"LinkedCoresModel", "readDeclaration", "()V"⟩ else ⟨"", "", ""⟩)) else (bif Nat.ble mi 248 then (bif Nat.beq mi 248 then ⟨"LinkedCoresModel", "readStatement", "(I)I"⟩ else ⟨"", "", ""⟩) else (bif Nat.ble mi 249 then (bif Nat.beq mi 249 then ⟨"LinkedCoresModel", "readChildren", "(IIII)V"⟩ else ⟨"", "", ""⟩) else (bif Nat.beq mi 250 then ⟨"LinkedCoresModel", "readSeq", "(I)I"⟩ else ⟨"", "", ""⟩)))
def mw_y_4_0_1 (mi : Nat) : MethodName := bif Nat.ble mi 252 then (bif Nat.ble mi 251 then (bif Nat.beq mi 251 then ⟨"LinkedCoresModel", "readIndexed", "(II)I"⟩ else ⟨"", "", ""⟩) else (bif Nat.beq mi 252 then ⟨"LinkedCoresModel", "readPar", "(I)I"⟩ else ⟨"", "", ""⟩)) else (bif Nat.ble mi 253 then (bif Nat.beq mi 253 then ⟨"LinkedCoresModel", "addTo", "(III)V"⟩ else ⟨"", "", ""⟩) else (bif Nat.ble mi 254 then (bif Nat.beq mi 254 then ⟨"LinkedCoresModel", "readIf", "(I)I"⟩ else ⟨"", "", ""⟩) else (bif Nat.beq mi 255 then ⟨"LinkedCoresModel", "readAlt", "(I)I"⟩ else ⟨"", "", ""⟩)))
def mw_y_4_0 (mi : Nat) : MethodName := bif Nat.ble mi 250 then (mw_y_4_0_0 mi) else (mw_y_4_0_1 mi)
def mw_y_4_1_0 (mi : Nat) : MethodName := bif Nat.ble mi 257 then (bif Nat.ble mi 256 then (bif Nat.beq mi 256 then ⟨"LinkedCoresModel", "readGuard", "()I"⟩ else ⟨"", "", ""⟩) else (bif Nat.beq mi 257 then ⟨"LinkedCoresModel", "readNamed", "()I"⟩ else ⟨"", "", ""⟩)) else (bif Nat.ble mi 258 then (bif Nat.beq mi 258 then ⟨"LinkedCoresModel", "readCall", "(I)I"⟩ else ⟨"", "", ""⟩) else (bif Nat.ble mi 259 then (bif Nat.beq mi 259 then ⟨"LinkedCoresModel", "readArgument", "(I)I"⟩ else ⟨"", "", ""⟩) else (bif Nat.beq mi 260 then ⟨"LinkedCoresModel", "isTaken", "(J)Z"⟩ else ⟨"", "", ""⟩)))
def mw_y_4_1_1 (mi : Nat) : MethodName := bif Nat.ble mi 262 then (bif Nat.ble mi 261 then (bif Nat.beq mi 261 then ⟨"LinkedCoresModel", "readProc", "()V"⟩ else ⟨"", "", ""⟩) else (bif Nat.beq mi 262 then ⟨"LinkedCoresModel", "readParameter", "(I)V"⟩ else ⟨"", "", ""⟩)) else (bif Nat.ble mi 263 then (bif Nat.beq mi 263 then ⟨"LinkedCoresModel", "readLink", "()V"⟩ else ⟨"", "", ""⟩) else (bif Nat.ble mi 264 then (bif Nat.beq mi 264 then ⟨"LinkedCoresModel", "readPlaced", "()V"⟩ else ⟨"", "", ""⟩) else (bif Nat.beq mi 265 then ⟨"LinkedCoresModel", "readProgram", "()V"⟩ else ⟨"", "", ""⟩)))
def mw_y_4_1 (mi : Nat) : MethodName := bif Nat.ble mi 260 then (mw_y_4_1_0 mi) else (mw_y_4_1_1 mi)
def mw_y_4_2_0 (mi : Nat) : MethodName := bif Nat.ble mi 267 then (bif Nat.ble mi 266 then (bif Nat.beq mi 266 then ⟨"LinkedCoresModel", "reach", "(I)V"⟩ else ⟨"", "", ""⟩) else (bif Nat.beq mi 267 then ⟨"LinkedCoresModel", "isPlain", "(I)Z"⟩ else ⟨"", "", ""⟩)) else (bif Nat.ble mi 268 then (bif Nat.beq mi 268 then ⟨"LinkedCoresModel", "bare", "(I)I"⟩ else ⟨"", "", ""⟩) else (bif Nat.ble mi 269 then (bif Nat.beq mi 269 then ⟨"LinkedCoresModel", "measureE", "(II)V"⟩ else ⟨"", "", ""⟩) else (bif Nat.beq mi 270 then ⟨"LinkedCoresModel", "measureReference", "(II)V"⟩ else ⟨"", "", ""⟩)))
def mw_y_4_2_1 (mi : Nat) : MethodName := bif Nat.ble mi 272 then (bif Nat.ble mi 271 then (bif Nat.beq mi 271 then ⟨"LinkedCoresModel", "capped", "(J)I"⟩ else ⟨"", "", ""⟩) else (bif Nat.beq mi 272 then ⟨"LinkedCoresModel", "measureBranch", "(I)I"⟩ else ⟨"", "", ""⟩)) else (bif Nat.ble mi 273 then (bif Nat.beq mi 273 then ⟨"LinkedCoresModel", "measure", "(II)I"⟩ else ⟨"", "", ""⟩) else (bif Nat.ble mi 274 then (bif Nat.beq mi 274 then ⟨"LinkedCoresModel", "measureAlt", "(II)I"⟩ else ⟨"", "", ""⟩) else (bif Nat.beq mi 275 then ⟨"LinkedCoresModel", "measureAll", "()Z"⟩ else ⟨"", "", ""⟩)))
def mw_y_4_2 (mi : Nat) : MethodName := bif Nat.ble mi 270 then (mw_y_4_2_0 mi) else (mw_y_4_2_1 mi)
def mw_y_4_3_0 (mi : Nat) : MethodName := bif Nat.ble mi 277 then (bif Nat.ble mi 276 then (bif Nat.beq mi 276 then ⟨"LinkedCoresModel", "addUse", "(IIZI)V"⟩ else ⟨"", "", ""⟩) else (bif Nat.beq mi 277 then ⟨"LinkedCoresModel", "isPlainConstant", "(I)Z"⟩ else ⟨"", "", ""⟩)) else (bif Nat.ble mi 278 then (bif Nat.beq mi 278 then ⟨"LinkedCoresModel", "isConstant", "(I)Z"⟩ else ⟨"", "", ""⟩) else (bif Nat.ble mi 279 then (bif Nat.beq mi 279 then ⟨"LinkedCoresModel", "constant", "(I)I"⟩ else ⟨"", "", ""⟩) else (bif Nat.beq mi 280 then ⟨"LinkedCoresModel", "useReference", "(II)V"⟩ else ⟨"", "", ""⟩)))
def mw_y_4_3_1 (mi : Nat) : MethodName := bif Nat.ble mi 282 then (bif Nat.ble mi 281 then (bif Nat.beq mi 281 then ⟨"LinkedCoresModel", "useE", "(I)V"⟩ else ⟨"", "", ""⟩) else (bif Nat.beq mi 282 then ⟨"LinkedCoresModel", "useAll", "(I)V"⟩ else ⟨"", "", ""⟩)) else (bif Nat.ble mi 283 then (bif Nat.beq mi 283 then ⟨"LinkedCoresModel", "useChoice", "(I)V"⟩ else ⟨"", "", ""⟩) else (bif Nat.ble mi 284 then (bif Nat.beq mi 284 then ⟨"LinkedCoresModel", "useArgument", "(I)V"⟩ else ⟨"", "", ""⟩) else (bif Nat.beq mi 285 then ⟨"LinkedCoresModel", "clash", "(II)Z"⟩ else ⟨"", "", ""⟩)))
def mw_y_4_3 (mi : Nat) : MethodName := bif Nat.ble mi 280 then (mw_y_4_3_0 mi) else (mw_y_4_3_1 mi)
def mw_y_4_4_0 (mi : Nat) : MethodName := bif Nat.ble mi 287 then (bif Nat.ble mi 286 then (bif Nat.beq mi 286 then ⟨"LinkedCoresModel", "wrong", "(I)V"⟩ else ⟨"", "", ""⟩) else (bif Nat.beq mi 287 then ⟨"LinkedCoresModel", "checkPar", "(I)V"⟩ else ⟨"", "", ""⟩)) else (bif Nat.ble mi 288 then (bif Nat.beq mi 288 then ⟨"LinkedCoresModel", "branchesClash", "(IIIII)Z"⟩ else ⟨"", "", ""⟩) else (bif Nat.ble mi 289 then (bif Nat.beq mi 289 then ⟨"LinkedCoresModel", "checkChannel", "(III)V"⟩ else ⟨"", "", ""⟩) else (bif Nat.beq mi 290 then ⟨"LinkedCoresModel", "checkCall", "(I)V"⟩ else ⟨"", "", ""⟩)))
def mw_y_4_4_1 (mi : Nat) : MethodName := bif Nat.ble mi 292 then (bif Nat.ble mi 291 then (bif Nat.beq mi 291 then ⟨"LinkedCoresModel", "meet", "(II)Z"⟩ else ⟨"", "", ""⟩) else (bif Nat.beq mi 292 then ⟨"LinkedCoresModel", "check", "(I)V"⟩ else ⟨"", "", ""⟩)) else (bif Nat.ble mi 293 then (bif Nat.beq mi 293 then ⟨"LinkedCoresModel", "checkRow", "(I)V"⟩ else ⟨"", "", ""⟩) else (bif Nat.ble mi 294 then (bif Nat.beq mi 294 then ⟨"LinkedCoresModel", "checkUses", "()Z"⟩ else ⟨"", "", ""⟩) else (bif Nat.beq mi 295 then ⟨"LinkedCoresModel", "emit", "(II)V"⟩ else ⟨"", "", ""⟩)))
def mw_y_4_4 (mi : Nat) : MethodName := bif Nat.ble mi 290 then (mw_y_4_4_0 mi) else (mw_y_4_4_1 mi)
def mw_y_4_5_0 (mi : Nat) : MethodName := bif Nat.ble mi 297 then (bif Nat.ble mi 296 then (bif Nat.beq mi 296 then ⟨"LinkedCoresModel", "op", "(I)V"⟩ else ⟨"", "", ""⟩) else (bif Nat.beq mi 297 then ⟨"LinkedCoresModel", "label", "()I"⟩ else ⟨"", "", ""⟩)) else (bif Nat.ble mi 298 then (bif Nat.beq mi 298 then ⟨"LinkedCoresModel", "set", "(I)V"⟩ else ⟨"", "", ""⟩) else (bif Nat.ble mi 299 then (bif Nat.beq mi 299 then ⟨"LinkedCoresModel", "way", "(III)V"⟩ else ⟨"", "", ""⟩) else (bif Nat.beq mi 300 then ⟨"LinkedCoresModel", "place", "(I)V"⟩ else ⟨"", "", ""⟩)))
def mw_y_4_5_1 (mi : Nat) : MethodName := bif Nat.ble mi 303 then (bif Nat.ble mi 301 then (bif Nat.beq mi 301 then ⟨"LinkedCoresModel", "wordOf", "(I)I"⟩ else ⟨"", "", ""⟩) else (bif Nat.ble mi 302 then (bif Nat.beq mi 302 then ⟨"LinkedCoresModel", "genAddress", "(I)V"⟩ else ⟨"", "", ""⟩) else (bif Nat.beq mi 303 then ⟨"LinkedCoresModel", "genE", "(I)V"⟩ else ⟨"", "", ""⟩))) else (bif Nat.ble mi 304 then (bif Nat.beq mi 304 then ⟨"LinkedCoresModel", "genTwo", "(I)V"⟩ else ⟨"", "", ""⟩) else (bif Nat.ble mi 305 then (bif Nat.beq mi 305 then ⟨"LinkedCoresModel", "genSign", "(I)V"⟩ else ⟨"", "", ""⟩) else (bif Nat.beq mi 306 then ⟨"LinkedCoresModel", "gen", "(I)V"⟩ else ⟨"", "", ""⟩)))
def mw_y_4_5 (mi : Nat) : MethodName := bif Nat.ble mi 300 then (mw_y_4_5_0 mi) else (mw_y_4_5_1 mi)
def mw_y_4 (mi : Nat) : MethodName := bif Nat.ble mi 275 then (bif Nat.ble mi 255 then (mw_y_4_0 mi) else (bif Nat.ble mi 265 then (mw_y_4_1 mi) else (mw_y_4_2 mi))) else (bif Nat.ble mi 285 then (mw_y_4_3 mi) else (bif Nat.ble mi 295 then (mw_y_4_4 mi) else (mw_y_4_5 mi)))
def mw_y_5_0_0 (mi : Nat) : MethodName := bif Nat.ble mi 308 then (bif Nat.ble mi 307 then (bif Nat.beq mi 307 then ⟨"LinkedCoresModel", "genStore", "(I)V"⟩ else ⟨"", "", ""⟩) else (bif Nat.beq mi 308 then ⟨"LinkedCoresModel", "genCall", "(I)V"⟩ else ⟨"", "", ""⟩)) else (bif Nat.ble mi 309 then (bif Nat.beq mi 309 then ⟨"LinkedCoresModel", "genFor", "(I)V"⟩ else ⟨"", "", ""⟩) else (bif Nat.ble mi 310 then (bif Nat.beq mi 310 then ⟨"LinkedCoresModel", "genIf", "(I)V"⟩ else ⟨"", "", ""⟩) else (bif Nat.beq mi 311 then ⟨"LinkedCoresModel", "genPar", "(I)V"⟩ else ⟨"", "", ""⟩)))
def mw_y_5_0_1 (mi : Nat) : MethodName := bif Nat.ble mi 313 then (bif Nat.ble mi 312 then (bif Nat.beq mi 312 then ⟨"LinkedCoresModel", "genAlt", "(I)V"⟩ else ⟨"", "", ""⟩) else (bif Nat.beq mi 313 then ⟨"LinkedCoresModel", "length", "(I)I"⟩ else ⟨"", "", ""⟩)) else (bif Nat.ble mi 314 then (bif Nat.beq mi 314 then ⟨"LinkedCoresModel", "findPlaces", "()V"⟩ else ⟨"", "", ""⟩) else (bif Nat.ble mi 315 then (bif Nat.beq mi 315 then ⟨"LinkedCoresModel", "wayOf", "(I)I"⟩ else ⟨"", "", ""⟩) else (bif Nat.beq mi 316 then ⟨"LinkedCoresModel", "findLengths", "()V"⟩ else ⟨"", "", ""⟩)))
def mw_y_5_0 (mi : Nat) : MethodName := bif Nat.ble mi 311 then (mw_y_5_0_0 mi) else (mw_y_5_0_1 mi)
def mw_y_5_1_0 (mi : Nat) : MethodName := bif Nat.ble mi 318 then (bif Nat.ble mi 317 then (bif Nat.beq mi 317 then ⟨"LinkedCoresModel", "write", "(II)V"⟩ else ⟨"", "", ""⟩) else (bif Nat.beq mi 318 then ⟨"LinkedCoresModel", "genAll", "(I)Z"⟩ else ⟨"", "", ""⟩)) else (bif Nat.ble mi 319 then (bif Nat.beq mi 319 then ⟨"LinkedCoresModel", "compile", "()I"⟩ else ⟨"", "", ""⟩) else (bif Nat.ble mi 320 then (bif Nat.beq mi 320 then ⟨"LinkedCoresModel", "fault", "(I)I"⟩ else ⟨"", "", ""⟩) else (bif Nat.beq mi 321 then ⟨"LinkedCoresModel", "reset", "()V"⟩ else ⟨"", "", ""⟩)))
def mw_y_5_1_1 (mi : Nat) : MethodName := bif Nat.ble mi 323 then (bif Nat.ble mi 322 then (bif Nat.beq mi 322 then ⟨"LinkedCoresModel", "load", "(II)I"⟩ else ⟨"", "", ""⟩) else (bif Nat.beq mi 323 then ⟨"LinkedCoresModel", "store", "(III)V"⟩ else ⟨"", "", ""⟩)) else (bif Nat.ble mi 324 then (bif Nat.beq mi 324 then ⟨"LinkedCoresModel", "makeReady", "(II)V"⟩ else ⟨"", "", ""⟩) else (bif Nat.ble mi 325 then (bif Nat.beq mi 325 then ⟨"LinkedCoresModel", "dispatch", "(I)V"⟩ else ⟨"", "", ""⟩) else (bif Nat.beq mi 326 then ⟨"LinkedCoresModel", "yield0", "(I)V"⟩ else ⟨"", "", ""⟩)))
def mw_y_5_1 (mi : Nat) : MethodName := bif Nat.ble mi 321 then (mw_y_5_1_0 mi) else (mw_y_5_1_1 mi)
def mw_y_5_2_0 (mi : Nat) : MethodName := bif Nat.ble mi 328 then (bif Nat.ble mi 327 then (bif Nat.beq mi 327 then ⟨"LinkedCoresModel", "wait0", "(I)V"⟩ else ⟨"", "", ""⟩) else (bif Nat.beq mi 328 then ⟨"LinkedCoresModel", "gone", "(I)V"⟩ else ⟨"", "", ""⟩)) else (bif Nat.ble mi 329 then (bif Nat.beq mi 329 then ⟨"LinkedCoresModel", "fault", "(IZ)V"⟩ else ⟨"", "", ""⟩) else (bif Nat.ble mi 330 then (bif Nat.beq mi 330 then ⟨"LinkedCoresModel", "take", "(I)V"⟩ else ⟨"", "", ""⟩) else (bif Nat.beq mi 331 then ⟨"LinkedCoresModel", "come", "(II)V"⟩ else ⟨"", "", ""⟩)))
def mw_y_5_2_1 (mi : Nat) : MethodName := bif Nat.ble mi 334 then (bif Nat.ble mi 332 then (bif Nat.beq mi 332 then ⟨"LinkedCoresModel", "oneByte", "(I)Z"⟩ else ⟨"", "", ""⟩) else (bif Nat.ble mi 333 then (bif Nat.beq mi 333 then ⟨"LinkedCoresModel", "act", "(III)V"⟩ else ⟨"", "", ""⟩) else (bif Nat.beq mi 334 then ⟨"LinkedCoresModel", "two", "(II)V"⟩ else ⟨"", "", ""⟩))) else (bif Nat.ble mi 335 then (bif Nat.beq mi 335 then ⟨"LinkedCoresModel", "operate", "(II)V"⟩ else ⟨"", "", ""⟩) else (bif Nat.ble mi 336 then (bif Nat.beq mi 336 then ⟨"LinkedCoresModel", "endBranch", "(II)V"⟩ else ⟨"", "", ""⟩) else (bif Nat.beq mi 337 then ⟨"LinkedCoresModel", "speak", "(IIII)V"⟩ else ⟨"", "", ""⟩)))
def mw_y_5_2 (mi : Nat) : MethodName := bif Nat.ble mi 331 then (mw_y_5_2_0 mi) else (mw_y_5_2_1 mi)
def mw_y_5_3_0 (mi : Nat) : MethodName := bif Nat.ble mi 339 then (bif Nat.ble mi 338 then (bif Nat.beq mi 338 then ⟨"LinkedCoresModel", "isLinkIn", "(I)Z"⟩ else ⟨"", "", ""⟩) else (bif Nat.beq mi 339 then ⟨"LinkedCoresModel", "hasCome", "(I)Z"⟩ else ⟨"", "", ""⟩)) else (bif Nat.ble mi 340 then (bif Nat.beq mi 340 then ⟨"LinkedCoresModel", "isOutside", "(I)Z"⟩ else ⟨"", "", ""⟩) else (bif Nat.ble mi 341 then (bif Nat.beq mi 341 then ⟨"LinkedCoresModel", "enable", "(II)V"⟩ else ⟨"", "", ""⟩) else (bif Nat.beq mi 342 then ⟨"LinkedCoresModel", "disable", "(III)V"⟩ else ⟨"", "", ""⟩)))
def mw_y_5_3_1 (mi : Nat) : MethodName := bif Nat.ble mi 344 then (bif Nat.ble mi 343 then (bif Nat.beq mi 343 then ⟨"LinkedCoresModel", "wake", "(II)V"⟩ else ⟨"", "", ""⟩) else (bif Nat.beq mi 344 then ⟨"LinkedCoresModel", "out", "(III)V"⟩ else ⟨"", "", ""⟩)) else (bif Nat.ble mi 345 then (bif Nat.beq mi 345 then ⟨"LinkedCoresModel", "inWord", "(III)V"⟩ else ⟨"", "", ""⟩) else (bif Nat.ble mi 346 then (bif Nat.beq mi 346 then ⟨"LinkedCoresModel", "beatOf", "(I)Z"⟩ else ⟨"", "", ""⟩) else (bif Nat.beq mi 347 then ⟨"LinkedCoresModel", "oneBeat", "()I"⟩ else ⟨"", "", ""⟩)))
def mw_y_5_3 (mi : Nat) : MethodName := bif Nat.ble mi 342 then (mw_y_5_3_0 mi) else (mw_y_5_3_1 mi)
def mw_y_5_4_0 (mi : Nat) : MethodName := bif Nat.ble mi 349 then (bif Nat.ble mi 348 then (bif Nat.beq mi 348 then ⟨"LinkedCoresModel", "find", "()I"⟩ else ⟨"", "", ""⟩) else (bif Nat.beq mi 349 then ⟨"LinkedCoresModel", "begin", "()V"⟩ else ⟨"", "", ""⟩)) else (bif Nat.ble mi 350 then (bif Nat.beq mi 350 then ⟨"LinkedCoresModel", "input", "(I)I"⟩ else ⟨"", "", ""⟩) else (bif Nat.ble mi 351 then (bif Nat.beq mi 351 then ⟨"LinkedCoresModel", "isCore", "(I)Z"⟩ else ⟨"", "", ""⟩) else (bif Nat.beq mi 352 then ⟨"LinkedCoresModel", "run", "(II)I"⟩ else ⟨"", "", ""⟩)))
def mw_y_5_4_1 (mi : Nat) : MethodName := bif Nat.ble mi 354 then (bif Nat.ble mi 353 then (bif Nat.beq mi 353 then ⟨"LinkedCoresModel", "beat", "(I)I"⟩ else ⟨"", "", ""⟩) else (bif Nat.beq mi 354 then ⟨"LinkedCoresModel", "rounds", "(I)I"⟩ else ⟨"", "", ""⟩)) else (bif Nat.ble mi 355 then (bif Nat.beq mi 355 then ⟨"LinkedCoresModel", "outcome", "()I"⟩ else ⟨"", "", ""⟩) else (bif Nat.ble mi 356 then (bif Nat.beq mi 356 then ⟨"LinkedCoresModel", "processor", "(II)I"⟩ else ⟨"", "", ""⟩) else (bif Nat.beq mi 357 then ⟨"LinkedCoresModel", "isByte", "(II)Z"⟩ else ⟨"", "", ""⟩)))
def mw_y_5_4 (mi : Nat) : MethodName := bif Nat.ble mi 352 then (mw_y_5_4_0 mi) else (mw_y_5_4_1 mi)
def mw_y_5_5_0 (mi : Nat) : MethodName := bif Nat.ble mi 359 then (bif Nat.ble mi 358 then (bif Nat.beq mi 358 then ⟨"LinkedCoresModel", "code", "(II)I"⟩ else ⟨"", "", ""⟩) else (bif Nat.beq mi 359 then ⟨"LinkedCoresModel", "instruction", "(III)I"⟩ else ⟨"", "", ""⟩)) else (bif Nat.ble mi 360 then (bif Nat.beq mi 360 then ⟨"LinkedCoresModel", "link", "(II)I"⟩ else ⟨"", "", ""⟩) else (bif Nat.ble mi 361 then (bif Nat.beq mi 361 then ⟨"LinkedCoresModel", "core", "(II)I"⟩ else ⟨"", "", ""⟩) else (bif Nat.beq mi 362 then ⟨"LinkedCoresModel", "ready", "(II)I"⟩ else ⟨"", "", ""⟩)))
def mw_y_5_5_1 (mi : Nat) : MethodName := bif Nat.ble mi 365 then (bif Nat.ble mi 363 then (bif Nat.beq mi 363 then ⟨"LinkedCoresModel", "word", "(II)I"⟩ else ⟨"", "", ""⟩) else (bif Nat.ble mi 364 then (bif Nat.beq mi 364 then ⟨"LinkedCoresModel", "output", "(I)I"⟩ else ⟨"", "", ""⟩) else (bif Nat.beq mi 365 then ⟨"LinkedCoresModel", "about", "(I)I"⟩ else ⟨"", "", ""⟩))) else (bif Nat.ble mi 366 then (bif Nat.beq mi 366 then ⟨"java/lang/Math", "max", "(II)I"⟩ else ⟨"", "", ""⟩) else (bif Nat.ble mi 367 then (bif Nat.beq mi 367 then ⟨"java/lang/Math", "min", "(II)I"⟩ else ⟨"", "", ""⟩) else (bif Nat.beq mi 368 then ⟨"java/lang/Math", "min", "(JJ)J"⟩ else ⟨"", "", ""⟩)))
def mw_y_5_5 (mi : Nat) : MethodName := bif Nat.ble mi 362 then (mw_y_5_5_0 mi) else (mw_y_5_5_1 mi)
def mw_y_5 (mi : Nat) : MethodName := bif Nat.ble mi 337 then (bif Nat.ble mi 316 then (mw_y_5_0 mi) else (bif Nat.ble mi 326 then (mw_y_5_1 mi) else (mw_y_5_2 mi))) else (bif Nat.ble mi 347 then (mw_y_5_3 mi) else (bif Nat.ble mi 357 then (mw_y_5_4 mi) else (mw_y_5_5 mi)))
def mw_y (mi : Nat) : MethodName := bif Nat.ble mi 183 then (bif Nat.ble mi 60 then (mw_y_0 mi) else (bif Nat.ble mi 122 then (mw_y_1 mi) else (mw_y_2 mi))) else (bif Nat.ble mi 245 then (mw_y_3 mi) else (bif Nat.ble mi 306 then (mw_y_4 mi) else (mw_y_5 mi)))
def mw_b_0_0_0 (mi : Nat) : ByteArray := bif Nat.ble mi 1 then (bif Nat.ble mi 0 then (bif Nat.beq mi 0 then prog_1_method_1_code else ⟨#[]⟩) else (bif Nat.beq mi 1 then prog_1_method_2_code else ⟨#[]⟩)) else (bif Nat.ble mi 2 then (bif Nat.beq mi 2 then prog_1_method_3_code else ⟨#[]⟩) else (bif Nat.ble mi 3 then (bif Nat.beq mi 3 then prog_1_method_4_code else ⟨#[]⟩) else (bif Nat.beq mi 4 then prog_1_method_5_code else ⟨#[]⟩)))
def mw_b_0_0_1 (mi : Nat) : ByteArray := bif Nat.ble mi 6 then (bif Nat.ble mi 5 then (bif Nat.beq mi 5 then prog_1_method_7_code else ⟨#[]⟩) else (bif Nat.beq mi 6 then prog_1_method_8_code else ⟨#[]⟩)) else (bif Nat.ble mi 7 then (bif Nat.beq mi 7 then prog_1_method_9_code else ⟨#[]⟩) else (bif Nat.ble mi 8 then (bif Nat.beq mi 8 then prog_1_method_10_code else ⟨#[]⟩) else (bif Nat.beq mi 9 then prog_1_method_11_code else ⟨#[]⟩)))
def mw_b_0_0 (mi : Nat) : ByteArray := bif Nat.ble mi 4 then (mw_b_0_0_0 mi) else (mw_b_0_0_1 mi)
def mw_b_0_1_0 (mi : Nat) : ByteArray := bif Nat.ble mi 11 then (bif Nat.ble mi 10 then (bif Nat.beq mi 10 then prog_1_method_12_code else ⟨#[]⟩) else (bif Nat.beq mi 11 then prog_1_method_13_code else ⟨#[]⟩)) else (bif Nat.ble mi 12 then (bif Nat.beq mi 12 then prog_1_method_14_code else ⟨#[]⟩) else (bif Nat.ble mi 13 then (bif Nat.beq mi 13 then prog_1_method_15_code else ⟨#[]⟩) else (bif Nat.beq mi 14 then prog_1_method_16_code else ⟨#[]⟩)))
def mw_b_0_1_1 (mi : Nat) : ByteArray := bif Nat.ble mi 16 then (bif Nat.ble mi 15 then (bif Nat.beq mi 15 then prog_1_method_17_code else ⟨#[]⟩) else (bif Nat.beq mi 16 then prog_1_method_18_code else ⟨#[]⟩)) else (bif Nat.ble mi 17 then (bif Nat.beq mi 17 then prog_1_method_19_code else ⟨#[]⟩) else (bif Nat.ble mi 18 then (bif Nat.beq mi 18 then prog_1_method_20_code else ⟨#[]⟩) else (bif Nat.beq mi 19 then prog_1_method_21_code else ⟨#[]⟩)))
def mw_b_0_1 (mi : Nat) : ByteArray := bif Nat.ble mi 14 then (mw_b_0_1_0 mi) else (mw_b_0_1_1 mi)
def mw_b_0_2_0 (mi : Nat) : ByteArray := bif Nat.ble mi 21 then (bif Nat.ble mi 20 then (bif Nat.beq mi 20 then prog_1_method_22_code else ⟨#[]⟩) else (bif Nat.beq mi 21 then prog_1_method_23_code else ⟨#[]⟩)) else (bif Nat.ble mi 22 then (bif Nat.beq mi 22 then prog_1_method_24_code else ⟨#[]⟩) else (bif Nat.ble mi 23 then (bif Nat.beq mi 23 then prog_1_method_25_code else ⟨#[]⟩) else (bif Nat.beq mi 24 then prog_1_method_26_code else ⟨#[]⟩)))
def mw_b_0_2_1 (mi : Nat) : ByteArray := bif Nat.ble mi 26 then (bif Nat.ble mi 25 then (bif Nat.beq mi 25 then prog_1_method_27_code else ⟨#[]⟩) else (bif Nat.beq mi 26 then prog_1_method_28_code else ⟨#[]⟩)) else (bif Nat.ble mi 27 then (bif Nat.beq mi 27 then prog_1_method_29_code else ⟨#[]⟩) else (bif Nat.ble mi 28 then (bif Nat.beq mi 28 then prog_1_method_30_code else ⟨#[]⟩) else (bif Nat.beq mi 29 then prog_1_method_31_code else ⟨#[]⟩)))
def mw_b_0_2 (mi : Nat) : ByteArray := bif Nat.ble mi 24 then (mw_b_0_2_0 mi) else (mw_b_0_2_1 mi)
def mw_b_0_3_0 (mi : Nat) : ByteArray := bif Nat.ble mi 31 then (bif Nat.ble mi 30 then (bif Nat.beq mi 30 then prog_1_method_32_code else ⟨#[]⟩) else (bif Nat.beq mi 31 then prog_1_method_33_code else ⟨#[]⟩)) else (bif Nat.ble mi 32 then (bif Nat.beq mi 32 then prog_1_method_34_code else ⟨#[]⟩) else (bif Nat.ble mi 33 then (bif Nat.beq mi 33 then prog_11_method_2_code else ⟨#[]⟩) else (bif Nat.beq mi 34 then prog_12_method_2_code else ⟨#[]⟩)))
def mw_b_0_3_1 (mi : Nat) : ByteArray := bif Nat.ble mi 36 then (bif Nat.ble mi 35 then (bif Nat.beq mi 35 then prog_12_method_3_code else ⟨#[]⟩) else (bif Nat.beq mi 36 then prog_9_method_2_code else ⟨#[]⟩)) else (bif Nat.ble mi 37 then (bif Nat.beq mi 37 then prog_9_method_3_code else ⟨#[]⟩) else (bif Nat.ble mi 38 then (bif Nat.beq mi 38 then prog_9_method_4_code else ⟨#[]⟩) else (bif Nat.beq mi 39 then prog_9_method_5_code else ⟨#[]⟩)))
def mw_b_0_3 (mi : Nat) : ByteArray := bif Nat.ble mi 34 then (mw_b_0_3_0 mi) else (mw_b_0_3_1 mi)
def mw_b_0_4_0 (mi : Nat) : ByteArray := bif Nat.ble mi 41 then (bif Nat.ble mi 40 then (bif Nat.beq mi 40 then prog_9_method_6_code else ⟨#[]⟩) else (bif Nat.beq mi 41 then prog_9_method_7_code else ⟨#[]⟩)) else (bif Nat.ble mi 42 then (bif Nat.beq mi 42 then prog_9_method_8_code else ⟨#[]⟩) else (bif Nat.ble mi 43 then (bif Nat.beq mi 43 then prog_9_method_9_code else ⟨#[]⟩) else (bif Nat.beq mi 44 then prog_9_method_10_code else ⟨#[]⟩)))
def mw_b_0_4_1 (mi : Nat) : ByteArray := bif Nat.ble mi 46 then (bif Nat.ble mi 45 then (bif Nat.beq mi 45 then prog_9_method_11_code else ⟨#[]⟩) else (bif Nat.beq mi 46 then prog_9_method_12_code else ⟨#[]⟩)) else (bif Nat.ble mi 47 then (bif Nat.beq mi 47 then prog_9_method_13_code else ⟨#[]⟩) else (bif Nat.ble mi 48 then (bif Nat.beq mi 48 then prog_9_method_14_code else ⟨#[]⟩) else (bif Nat.beq mi 49 then prog_9_method_15_code else ⟨#[]⟩)))
def mw_b_0_4 (mi : Nat) : ByteArray := bif Nat.ble mi 44 then (mw_b_0_4_0 mi) else (mw_b_0_4_1 mi)
def mw_b_0_5_0 (mi : Nat) : ByteArray := bif Nat.ble mi 51 then (bif Nat.ble mi 50 then (bif Nat.beq mi 50 then prog_9_method_16_code else ⟨#[]⟩) else (bif Nat.beq mi 51 then prog_9_method_17_code else ⟨#[]⟩)) else (bif Nat.ble mi 52 then (bif Nat.beq mi 52 then prog_9_method_18_code else ⟨#[]⟩) else (bif Nat.ble mi 53 then (bif Nat.beq mi 53 then prog_9_method_19_code else ⟨#[]⟩) else (bif Nat.beq mi 54 then prog_9_method_20_code else ⟨#[]⟩)))
def mw_b_0_5_1 (mi : Nat) : ByteArray := bif Nat.ble mi 57 then (bif Nat.ble mi 55 then (bif Nat.beq mi 55 then prog_9_method_21_code else ⟨#[]⟩) else (bif Nat.ble mi 56 then (bif Nat.beq mi 56 then prog_9_method_22_code else ⟨#[]⟩) else (bif Nat.beq mi 57 then prog_9_method_23_code else ⟨#[]⟩))) else (bif Nat.ble mi 58 then (bif Nat.beq mi 58 then prog_9_method_24_code else ⟨#[]⟩) else (bif Nat.ble mi 59 then (bif Nat.beq mi 59 then prog_9_method_25_code else ⟨#[]⟩) else (bif Nat.beq mi 60 then prog_9_method_26_code else ⟨#[]⟩)))
def mw_b_0_5 (mi : Nat) : ByteArray := bif Nat.ble mi 54 then (mw_b_0_5_0 mi) else (mw_b_0_5_1 mi)
def mw_b_0 (mi : Nat) : ByteArray := bif Nat.ble mi 29 then (bif Nat.ble mi 9 then (mw_b_0_0 mi) else (bif Nat.ble mi 19 then (mw_b_0_1 mi) else (mw_b_0_2 mi))) else (bif Nat.ble mi 39 then (mw_b_0_3 mi) else (bif Nat.ble mi 49 then (mw_b_0_4 mi) else (mw_b_0_5 mi)))
def mw_b_1_0_0 (mi : Nat) : ByteArray := bif Nat.ble mi 62 then (bif Nat.ble mi 61 then (bif Nat.beq mi 61 then prog_9_method_27_code else ⟨#[]⟩) else (bif Nat.beq mi 62 then prog_9_method_28_code else ⟨#[]⟩)) else (bif Nat.ble mi 63 then (bif Nat.beq mi 63 then prog_9_method_29_code else ⟨#[]⟩) else (bif Nat.ble mi 64 then (bif Nat.beq mi 64 then prog_9_method_30_code else ⟨#[]⟩) else (bif Nat.beq mi 65 then prog_9_method_31_code else ⟨#[]⟩)))
def mw_b_1_0_1 (mi : Nat) : ByteArray := bif Nat.ble mi 67 then (bif Nat.ble mi 66 then (bif Nat.beq mi 66 then prog_9_method_32_code else ⟨#[]⟩) else (bif Nat.beq mi 67 then prog_9_method_33_code else ⟨#[]⟩)) else (bif Nat.ble mi 68 then (bif Nat.beq mi 68 then prog_9_method_34_code else ⟨#[]⟩) else (bif Nat.ble mi 69 then (bif Nat.beq mi 69 then prog_9_method_35_code else ⟨#[]⟩) else (bif Nat.beq mi 70 then prog_9_method_36_code else ⟨#[]⟩)))
def mw_b_1_0 (mi : Nat) : ByteArray := bif Nat.ble mi 65 then (mw_b_1_0_0 mi) else (mw_b_1_0_1 mi)
def mw_b_1_1_0 (mi : Nat) : ByteArray := bif Nat.ble mi 72 then (bif Nat.ble mi 71 then (bif Nat.beq mi 71 then prog_9_method_37_code else ⟨#[]⟩) else (bif Nat.beq mi 72 then prog_9_method_38_code else ⟨#[]⟩)) else (bif Nat.ble mi 73 then (bif Nat.beq mi 73 then prog_9_method_39_code else ⟨#[]⟩) else (bif Nat.ble mi 74 then (bif Nat.beq mi 74 then prog_9_method_40_code else ⟨#[]⟩) else (bif Nat.beq mi 75 then prog_9_method_41_code else ⟨#[]⟩)))
def mw_b_1_1_1 (mi : Nat) : ByteArray := bif Nat.ble mi 77 then (bif Nat.ble mi 76 then (bif Nat.beq mi 76 then prog_9_method_42_code else ⟨#[]⟩) else (bif Nat.beq mi 77 then prog_9_method_43_code else ⟨#[]⟩)) else (bif Nat.ble mi 78 then (bif Nat.beq mi 78 then prog_9_method_44_code else ⟨#[]⟩) else (bif Nat.ble mi 79 then (bif Nat.beq mi 79 then prog_9_method_45_code else ⟨#[]⟩) else (bif Nat.beq mi 80 then prog_9_method_46_code else ⟨#[]⟩)))
def mw_b_1_1 (mi : Nat) : ByteArray := bif Nat.ble mi 75 then (mw_b_1_1_0 mi) else (mw_b_1_1_1 mi)
def mw_b_1_2_0 (mi : Nat) : ByteArray := bif Nat.ble mi 82 then (bif Nat.ble mi 81 then (bif Nat.beq mi 81 then prog_9_method_47_code else ⟨#[]⟩) else (bif Nat.beq mi 82 then prog_9_method_48_code else ⟨#[]⟩)) else (bif Nat.ble mi 83 then (bif Nat.beq mi 83 then prog_9_method_49_code else ⟨#[]⟩) else (bif Nat.ble mi 84 then (bif Nat.beq mi 84 then prog_9_method_50_code else ⟨#[]⟩) else (bif Nat.beq mi 85 then prog_9_method_51_code else ⟨#[]⟩)))
def mw_b_1_2_1 (mi : Nat) : ByteArray := bif Nat.ble mi 88 then (bif Nat.ble mi 86 then (bif Nat.beq mi 86 then prog_9_method_52_code else ⟨#[]⟩) else (bif Nat.ble mi 87 then (bif Nat.beq mi 87 then prog_9_method_53_code else ⟨#[]⟩) else (bif Nat.beq mi 88 then prog_9_method_54_code else ⟨#[]⟩))) else (bif Nat.ble mi 89 then (bif Nat.beq mi 89 then prog_9_method_55_code else ⟨#[]⟩) else (bif Nat.ble mi 90 then (bif Nat.beq mi 90 then prog_9_method_56_code else ⟨#[]⟩) else (bif Nat.beq mi 91 then prog_9_method_57_code else ⟨#[]⟩)))
def mw_b_1_2 (mi : Nat) : ByteArray := bif Nat.ble mi 85 then (mw_b_1_2_0 mi) else (mw_b_1_2_1 mi)
def mw_b_1_3_0 (mi : Nat) : ByteArray := bif Nat.ble mi 93 then (bif Nat.ble mi 92 then (bif Nat.beq mi 92 then prog_5_method_2_code else ⟨#[]⟩) else (bif Nat.beq mi 93 then prog_5_method_3_code else ⟨#[]⟩)) else (bif Nat.ble mi 94 then (bif Nat.beq mi 94 then prog_5_method_4_code else ⟨#[]⟩) else (bif Nat.ble mi 95 then (bif Nat.beq mi 95 then prog_5_method_5_code else ⟨#[]⟩) else (bif Nat.beq mi 96 then prog_5_method_6_code else ⟨#[]⟩)))
def mw_b_1_3_1 (mi : Nat) : ByteArray := bif Nat.ble mi 98 then (bif Nat.ble mi 97 then (bif Nat.beq mi 97 then prog_5_method_7_code else ⟨#[]⟩) else (bif Nat.beq mi 98 then prog_5_method_8_code else ⟨#[]⟩)) else (bif Nat.ble mi 99 then (bif Nat.beq mi 99 then prog_5_method_9_code else ⟨#[]⟩) else (bif Nat.ble mi 100 then (bif Nat.beq mi 100 then prog_5_method_10_code else ⟨#[]⟩) else (bif Nat.beq mi 101 then prog_5_method_11_code else ⟨#[]⟩)))
def mw_b_1_3 (mi : Nat) : ByteArray := bif Nat.ble mi 96 then (mw_b_1_3_0 mi) else (mw_b_1_3_1 mi)
def mw_b_1_4_0 (mi : Nat) : ByteArray := bif Nat.ble mi 103 then (bif Nat.ble mi 102 then (bif Nat.beq mi 102 then prog_8_method_2_code else ⟨#[]⟩) else (bif Nat.beq mi 103 then prog_8_method_3_code else ⟨#[]⟩)) else (bif Nat.ble mi 104 then (bif Nat.beq mi 104 then prog_8_method_4_code else ⟨#[]⟩) else (bif Nat.ble mi 105 then (bif Nat.beq mi 105 then prog_8_method_5_code else ⟨#[]⟩) else (bif Nat.beq mi 106 then prog_8_method_6_code else ⟨#[]⟩)))
def mw_b_1_4_1 (mi : Nat) : ByteArray := bif Nat.ble mi 108 then (bif Nat.ble mi 107 then (bif Nat.beq mi 107 then prog_8_method_7_code else ⟨#[]⟩) else (bif Nat.beq mi 108 then prog_8_method_8_code else ⟨#[]⟩)) else (bif Nat.ble mi 109 then (bif Nat.beq mi 109 then prog_8_method_9_code else ⟨#[]⟩) else (bif Nat.ble mi 110 then (bif Nat.beq mi 110 then prog_13_method_2_code else ⟨#[]⟩) else (bif Nat.beq mi 111 then prog_13_method_3_code else ⟨#[]⟩)))
def mw_b_1_4 (mi : Nat) : ByteArray := bif Nat.ble mi 106 then (mw_b_1_4_0 mi) else (mw_b_1_4_1 mi)
def mw_b_1_5_0 (mi : Nat) : ByteArray := bif Nat.ble mi 113 then (bif Nat.ble mi 112 then (bif Nat.beq mi 112 then prog_13_method_4_code else ⟨#[]⟩) else (bif Nat.beq mi 113 then prog_13_method_5_code else ⟨#[]⟩)) else (bif Nat.ble mi 114 then (bif Nat.beq mi 114 then prog_13_method_6_code else ⟨#[]⟩) else (bif Nat.ble mi 115 then (bif Nat.beq mi 115 then prog_13_method_7_code else ⟨#[]⟩) else (bif Nat.beq mi 116 then prog_13_method_8_code else ⟨#[]⟩)))
def mw_b_1_5_1 (mi : Nat) : ByteArray := bif Nat.ble mi 119 then (bif Nat.ble mi 117 then (bif Nat.beq mi 117 then prog_13_method_9_code else ⟨#[]⟩) else (bif Nat.ble mi 118 then (bif Nat.beq mi 118 then prog_13_method_10_code else ⟨#[]⟩) else (bif Nat.beq mi 119 then prog_13_method_11_code else ⟨#[]⟩))) else (bif Nat.ble mi 120 then (bif Nat.beq mi 120 then prog_13_method_12_code else ⟨#[]⟩) else (bif Nat.ble mi 121 then (bif Nat.beq mi 121 then prog_13_method_13_code else ⟨#[]⟩) else (bif Nat.beq mi 122 then prog_13_method_14_code else ⟨#[]⟩)))
def mw_b_1_5 (mi : Nat) : ByteArray := bif Nat.ble mi 116 then (mw_b_1_5_0 mi) else (mw_b_1_5_1 mi)
def mw_b_1 (mi : Nat) : ByteArray := bif Nat.ble mi 91 then (bif Nat.ble mi 70 then (mw_b_1_0 mi) else (bif Nat.ble mi 80 then (mw_b_1_1 mi) else (mw_b_1_2 mi))) else (bif Nat.ble mi 101 then (mw_b_1_3 mi) else (bif Nat.ble mi 111 then (mw_b_1_4 mi) else (mw_b_1_5 mi)))
def mw_b_2_0_0 (mi : Nat) : ByteArray := bif Nat.ble mi 124 then (bif Nat.ble mi 123 then (bif Nat.beq mi 123 then prog_13_method_15_code else ⟨#[]⟩) else (bif Nat.beq mi 124 then prog_13_method_16_code else ⟨#[]⟩)) else (bif Nat.ble mi 125 then (bif Nat.beq mi 125 then prog_13_method_17_code else ⟨#[]⟩) else (bif Nat.ble mi 126 then (bif Nat.beq mi 126 then prog_13_method_18_code else ⟨#[]⟩) else (bif Nat.beq mi 127 then prog_2_method_2_code else ⟨#[]⟩)))
def mw_b_2_0_1 (mi : Nat) : ByteArray := bif Nat.ble mi 129 then (bif Nat.ble mi 128 then (bif Nat.beq mi 128 then prog_2_method_3_code else ⟨#[]⟩) else (bif Nat.beq mi 129 then prog_2_method_4_code else ⟨#[]⟩)) else (bif Nat.ble mi 130 then (bif Nat.beq mi 130 then prog_2_method_5_code else ⟨#[]⟩) else (bif Nat.ble mi 131 then (bif Nat.beq mi 131 then prog_2_method_6_code else ⟨#[]⟩) else (bif Nat.beq mi 132 then prog_2_method_7_code else ⟨#[]⟩)))
def mw_b_2_0 (mi : Nat) : ByteArray := bif Nat.ble mi 127 then (mw_b_2_0_0 mi) else (mw_b_2_0_1 mi)
def mw_b_2_1_0 (mi : Nat) : ByteArray := bif Nat.ble mi 134 then (bif Nat.ble mi 133 then (bif Nat.beq mi 133 then prog_2_method_8_code else ⟨#[]⟩) else (bif Nat.beq mi 134 then prog_2_method_9_code else ⟨#[]⟩)) else (bif Nat.ble mi 135 then (bif Nat.beq mi 135 then prog_2_method_10_code else ⟨#[]⟩) else (bif Nat.ble mi 136 then (bif Nat.beq mi 136 then prog_2_method_11_code else ⟨#[]⟩) else (bif Nat.beq mi 137 then prog_2_method_12_code else ⟨#[]⟩)))
def mw_b_2_1_1 (mi : Nat) : ByteArray := bif Nat.ble mi 139 then (bif Nat.ble mi 138 then (bif Nat.beq mi 138 then prog_2_method_13_code else ⟨#[]⟩) else (bif Nat.beq mi 139 then prog_2_method_14_code else ⟨#[]⟩)) else (bif Nat.ble mi 140 then (bif Nat.beq mi 140 then prog_2_method_15_code else ⟨#[]⟩) else (bif Nat.ble mi 141 then (bif Nat.beq mi 141 then prog_2_method_16_code else ⟨#[]⟩) else (bif Nat.beq mi 142 then prog_2_method_17_code else ⟨#[]⟩)))
def mw_b_2_1 (mi : Nat) : ByteArray := bif Nat.ble mi 137 then (mw_b_2_1_0 mi) else (mw_b_2_1_1 mi)
def mw_b_2_2_0 (mi : Nat) : ByteArray := bif Nat.ble mi 144 then (bif Nat.ble mi 143 then (bif Nat.beq mi 143 then prog_2_method_18_code else ⟨#[]⟩) else (bif Nat.beq mi 144 then prog_2_method_19_code else ⟨#[]⟩)) else (bif Nat.ble mi 145 then (bif Nat.beq mi 145 then prog_2_method_20_code else ⟨#[]⟩) else (bif Nat.ble mi 146 then (bif Nat.beq mi 146 then prog_2_method_21_code else ⟨#[]⟩) else (bif Nat.beq mi 147 then prog_2_method_22_code else ⟨#[]⟩)))
def mw_b_2_2_1 (mi : Nat) : ByteArray := bif Nat.ble mi 149 then (bif Nat.ble mi 148 then (bif Nat.beq mi 148 then prog_2_method_23_code else ⟨#[]⟩) else (bif Nat.beq mi 149 then prog_2_method_24_code else ⟨#[]⟩)) else (bif Nat.ble mi 150 then (bif Nat.beq mi 150 then prog_2_method_25_code else ⟨#[]⟩) else (bif Nat.ble mi 151 then (bif Nat.beq mi 151 then prog_2_method_26_code else ⟨#[]⟩) else (bif Nat.beq mi 152 then prog_2_method_27_code else ⟨#[]⟩)))
def mw_b_2_2 (mi : Nat) : ByteArray := bif Nat.ble mi 147 then (mw_b_2_2_0 mi) else (mw_b_2_2_1 mi)
def mw_b_2_3_0 (mi : Nat) : ByteArray := bif Nat.ble mi 154 then (bif Nat.ble mi 153 then (bif Nat.beq mi 153 then prog_2_method_28_code else ⟨#[]⟩) else (bif Nat.beq mi 154 then prog_2_method_29_code else ⟨#[]⟩)) else (bif Nat.ble mi 155 then (bif Nat.beq mi 155 then prog_2_method_30_code else ⟨#[]⟩) else (bif Nat.ble mi 156 then (bif Nat.beq mi 156 then prog_2_method_31_code else ⟨#[]⟩) else (bif Nat.beq mi 157 then prog_2_method_32_code else ⟨#[]⟩)))
def mw_b_2_3_1 (mi : Nat) : ByteArray := bif Nat.ble mi 159 then (bif Nat.ble mi 158 then (bif Nat.beq mi 158 then prog_2_method_33_code else ⟨#[]⟩) else (bif Nat.beq mi 159 then prog_2_method_34_code else ⟨#[]⟩)) else (bif Nat.ble mi 160 then (bif Nat.beq mi 160 then prog_2_method_35_code else ⟨#[]⟩) else (bif Nat.ble mi 161 then (bif Nat.beq mi 161 then prog_4_method_2_code else ⟨#[]⟩) else (bif Nat.beq mi 162 then prog_4_method_3_code else ⟨#[]⟩)))
def mw_b_2_3 (mi : Nat) : ByteArray := bif Nat.ble mi 157 then (mw_b_2_3_0 mi) else (mw_b_2_3_1 mi)
def mw_b_2_4_0 (mi : Nat) : ByteArray := bif Nat.ble mi 164 then (bif Nat.ble mi 163 then (bif Nat.beq mi 163 then prog_4_method_4_code else ⟨#[]⟩) else (bif Nat.beq mi 164 then prog_7_method_2_code else ⟨#[]⟩)) else (bif Nat.ble mi 165 then (bif Nat.beq mi 165 then prog_7_method_3_code else ⟨#[]⟩) else (bif Nat.ble mi 166 then (bif Nat.beq mi 166 then prog_7_method_4_code else ⟨#[]⟩) else (bif Nat.beq mi 167 then prog_7_method_5_code else ⟨#[]⟩)))
def mw_b_2_4_1 (mi : Nat) : ByteArray := bif Nat.ble mi 169 then (bif Nat.ble mi 168 then (bif Nat.beq mi 168 then prog_3_method_2_code else ⟨#[]⟩) else (bif Nat.beq mi 169 then prog_3_method_3_code else ⟨#[]⟩)) else (bif Nat.ble mi 170 then (bif Nat.beq mi 170 then prog_3_method_4_code else ⟨#[]⟩) else (bif Nat.ble mi 171 then (bif Nat.beq mi 171 then prog_3_method_5_code else ⟨#[]⟩) else (bif Nat.beq mi 172 then prog_3_method_6_code else ⟨#[]⟩)))
def mw_b_2_4 (mi : Nat) : ByteArray := bif Nat.ble mi 167 then (mw_b_2_4_0 mi) else (mw_b_2_4_1 mi)
def mw_b_2_5_0 (mi : Nat) : ByteArray := bif Nat.ble mi 174 then (bif Nat.ble mi 173 then (bif Nat.beq mi 173 then prog_3_method_7_code else ⟨#[]⟩) else (bif Nat.beq mi 174 then prog_3_method_8_code else ⟨#[]⟩)) else (bif Nat.ble mi 175 then (bif Nat.beq mi 175 then prog_3_method_9_code else ⟨#[]⟩) else (bif Nat.ble mi 176 then (bif Nat.beq mi 176 then prog_3_method_10_code else ⟨#[]⟩) else (bif Nat.beq mi 177 then prog_3_method_11_code else ⟨#[]⟩)))
def mw_b_2_5_1 (mi : Nat) : ByteArray := bif Nat.ble mi 180 then (bif Nat.ble mi 178 then (bif Nat.beq mi 178 then prog_3_method_12_code else ⟨#[]⟩) else (bif Nat.ble mi 179 then (bif Nat.beq mi 179 then prog_3_method_13_code else ⟨#[]⟩) else (bif Nat.beq mi 180 then prog_3_method_14_code else ⟨#[]⟩))) else (bif Nat.ble mi 181 then (bif Nat.beq mi 181 then prog_3_method_15_code else ⟨#[]⟩) else (bif Nat.ble mi 182 then (bif Nat.beq mi 182 then prog_3_method_16_code else ⟨#[]⟩) else (bif Nat.beq mi 183 then prog_3_method_17_code else ⟨#[]⟩)))
def mw_b_2_5 (mi : Nat) : ByteArray := bif Nat.ble mi 177 then (mw_b_2_5_0 mi) else (mw_b_2_5_1 mi)
def mw_b_2 (mi : Nat) : ByteArray := bif Nat.ble mi 152 then (bif Nat.ble mi 132 then (mw_b_2_0 mi) else (bif Nat.ble mi 142 then (mw_b_2_1 mi) else (mw_b_2_2 mi))) else (bif Nat.ble mi 162 then (mw_b_2_3 mi) else (bif Nat.ble mi 172 then (mw_b_2_4 mi) else (mw_b_2_5 mi)))
def mw_b_3_0_0 (mi : Nat) : ByteArray := bif Nat.ble mi 185 then (bif Nat.ble mi 184 then (bif Nat.beq mi 184 then prog_3_method_18_code else ⟨#[]⟩) else (bif Nat.beq mi 185 then prog_3_method_19_code else ⟨#[]⟩)) else (bif Nat.ble mi 186 then (bif Nat.beq mi 186 then prog_3_method_20_code else ⟨#[]⟩) else (bif Nat.ble mi 187 then (bif Nat.beq mi 187 then prog_3_method_21_code else ⟨#[]⟩) else (bif Nat.beq mi 188 then prog_3_method_22_code else ⟨#[]⟩)))
def mw_b_3_0_1 (mi : Nat) : ByteArray := bif Nat.ble mi 190 then (bif Nat.ble mi 189 then (bif Nat.beq mi 189 then prog_3_method_23_code else ⟨#[]⟩) else (bif Nat.beq mi 190 then prog_3_method_24_code else ⟨#[]⟩)) else (bif Nat.ble mi 191 then (bif Nat.beq mi 191 then prog_3_method_25_code else ⟨#[]⟩) else (bif Nat.ble mi 192 then (bif Nat.beq mi 192 then prog_6_method_2_code else ⟨#[]⟩) else (bif Nat.beq mi 193 then prog_6_method_3_code else ⟨#[]⟩)))
def mw_b_3_0 (mi : Nat) : ByteArray := bif Nat.ble mi 188 then (mw_b_3_0_0 mi) else (mw_b_3_0_1 mi)
def mw_b_3_1_0 (mi : Nat) : ByteArray := bif Nat.ble mi 195 then (bif Nat.ble mi 194 then (bif Nat.beq mi 194 then prog_6_method_4_code else ⟨#[]⟩) else (bif Nat.beq mi 195 then prog_6_method_5_code else ⟨#[]⟩)) else (bif Nat.ble mi 196 then (bif Nat.beq mi 196 then prog_6_method_6_code else ⟨#[]⟩) else (bif Nat.ble mi 197 then (bif Nat.beq mi 197 then prog_17_method_2_code else ⟨#[]⟩) else (bif Nat.beq mi 198 then prog_17_method_3_code else ⟨#[]⟩)))
def mw_b_3_1_1 (mi : Nat) : ByteArray := bif Nat.ble mi 200 then (bif Nat.ble mi 199 then (bif Nat.beq mi 199 then prog_17_method_4_code else ⟨#[]⟩) else (bif Nat.beq mi 200 then prog_17_method_5_code else ⟨#[]⟩)) else (bif Nat.ble mi 201 then (bif Nat.beq mi 201 then prog_17_method_6_code else ⟨#[]⟩) else (bif Nat.ble mi 202 then (bif Nat.beq mi 202 then prog_17_method_7_code else ⟨#[]⟩) else (bif Nat.beq mi 203 then prog_17_method_8_code else ⟨#[]⟩)))
def mw_b_3_1 (mi : Nat) : ByteArray := bif Nat.ble mi 198 then (mw_b_3_1_0 mi) else (mw_b_3_1_1 mi)
def mw_b_3_2_0 (mi : Nat) : ByteArray := bif Nat.ble mi 205 then (bif Nat.ble mi 204 then (bif Nat.beq mi 204 then prog_17_method_9_code else ⟨#[]⟩) else (bif Nat.beq mi 205 then prog_17_method_10_code else ⟨#[]⟩)) else (bif Nat.ble mi 206 then (bif Nat.beq mi 206 then prog_17_method_11_code else ⟨#[]⟩) else (bif Nat.ble mi 207 then (bif Nat.beq mi 207 then prog_17_method_12_code else ⟨#[]⟩) else (bif Nat.beq mi 208 then prog_17_method_13_code else ⟨#[]⟩)))
def mw_b_3_2_1 (mi : Nat) : ByteArray := bif Nat.ble mi 211 then (bif Nat.ble mi 209 then (bif Nat.beq mi 209 then prog_17_method_14_code else ⟨#[]⟩) else (bif Nat.ble mi 210 then (bif Nat.beq mi 210 then prog_17_method_15_code else ⟨#[]⟩) else (bif Nat.beq mi 211 then prog_17_method_16_code else ⟨#[]⟩))) else (bif Nat.ble mi 212 then (bif Nat.beq mi 212 then prog_17_method_17_code else ⟨#[]⟩) else (bif Nat.ble mi 213 then (bif Nat.beq mi 213 then prog_17_method_18_code else ⟨#[]⟩) else (bif Nat.beq mi 214 then prog_17_method_19_code else ⟨#[]⟩)))
def mw_b_3_2 (mi : Nat) : ByteArray := bif Nat.ble mi 208 then (mw_b_3_2_0 mi) else (mw_b_3_2_1 mi)
def mw_b_3_3_0 (mi : Nat) : ByteArray := bif Nat.ble mi 216 then (bif Nat.ble mi 215 then (bif Nat.beq mi 215 then prog_17_method_20_code else ⟨#[]⟩) else (bif Nat.beq mi 216 then prog_17_method_21_code else ⟨#[]⟩)) else (bif Nat.ble mi 217 then (bif Nat.beq mi 217 then prog_17_method_22_code else ⟨#[]⟩) else (bif Nat.ble mi 218 then (bif Nat.beq mi 218 then prog_17_method_23_code else ⟨#[]⟩) else (bif Nat.beq mi 219 then prog_17_method_24_code else ⟨#[]⟩)))
def mw_b_3_3_1 (mi : Nat) : ByteArray := bif Nat.ble mi 221 then (bif Nat.ble mi 220 then (bif Nat.beq mi 220 then prog_17_method_25_code else ⟨#[]⟩) else (bif Nat.beq mi 221 then prog_17_method_26_code else ⟨#[]⟩)) else (bif Nat.ble mi 222 then (bif Nat.beq mi 222 then prog_17_method_27_code else ⟨#[]⟩) else (bif Nat.ble mi 223 then (bif Nat.beq mi 223 then prog_17_method_28_code else ⟨#[]⟩) else (bif Nat.beq mi 224 then prog_17_method_29_code else ⟨#[]⟩)))
def mw_b_3_3 (mi : Nat) : ByteArray := bif Nat.ble mi 219 then (mw_b_3_3_0 mi) else (mw_b_3_3_1 mi)
def mw_b_3_4_0 (mi : Nat) : ByteArray := bif Nat.ble mi 226 then (bif Nat.ble mi 225 then (bif Nat.beq mi 225 then prog_17_method_30_code else ⟨#[]⟩) else (bif Nat.beq mi 226 then prog_17_method_31_code else ⟨#[]⟩)) else (bif Nat.ble mi 227 then (bif Nat.beq mi 227 then prog_17_method_32_code else ⟨#[]⟩) else (bif Nat.ble mi 228 then (bif Nat.beq mi 228 then prog_17_method_33_code else ⟨#[]⟩) else (bif Nat.beq mi 229 then prog_17_method_34_code else ⟨#[]⟩)))
def mw_b_3_4_1 (mi : Nat) : ByteArray := bif Nat.ble mi 231 then (bif Nat.ble mi 230 then (bif Nat.beq mi 230 then prog_17_method_35_code else ⟨#[]⟩) else (bif Nat.beq mi 231 then prog_17_method_36_code else ⟨#[]⟩)) else (bif Nat.ble mi 232 then (bif Nat.beq mi 232 then prog_17_method_37_code else ⟨#[]⟩) else (bif Nat.ble mi 233 then (bif Nat.beq mi 233 then prog_17_method_38_code else ⟨#[]⟩) else (bif Nat.beq mi 234 then prog_17_method_39_code else ⟨#[]⟩)))
def mw_b_3_4 (mi : Nat) : ByteArray := bif Nat.ble mi 229 then (mw_b_3_4_0 mi) else (mw_b_3_4_1 mi)
def mw_b_3_5_0 (mi : Nat) : ByteArray := bif Nat.ble mi 236 then (bif Nat.ble mi 235 then (bif Nat.beq mi 235 then prog_17_method_40_code else ⟨#[]⟩) else (bif Nat.beq mi 236 then prog_17_method_41_code else ⟨#[]⟩)) else (bif Nat.ble mi 237 then (bif Nat.beq mi 237 then prog_17_method_42_code else ⟨#[]⟩) else (bif Nat.ble mi 238 then (bif Nat.beq mi 238 then prog_17_method_43_code else ⟨#[]⟩) else (bif Nat.beq mi 239 then prog_17_method_44_code else ⟨#[]⟩)))
def mw_b_3_5_1 (mi : Nat) : ByteArray := bif Nat.ble mi 242 then (bif Nat.ble mi 240 then (bif Nat.beq mi 240 then prog_17_method_45_code else ⟨#[]⟩) else (bif Nat.ble mi 241 then (bif Nat.beq mi 241 then prog_17_method_46_code else ⟨#[]⟩) else (bif Nat.beq mi 242 then prog_17_method_47_code else ⟨#[]⟩))) else (bif Nat.ble mi 243 then (bif Nat.beq mi 243 then prog_17_method_48_code else ⟨#[]⟩) else (bif Nat.ble mi 244 then (bif Nat.beq mi 244 then prog_17_method_49_code else ⟨#[]⟩) else (bif Nat.beq mi 245 then prog_17_method_50_code else ⟨#[]⟩)))
def mw_b_3_5 (mi : Nat) : ByteArray := bif Nat.ble mi 239 then (mw_b_3_5_0 mi) else (mw_b_3_5_1 mi)
def mw_b_3 (mi : Nat) : ByteArray := bif Nat.ble mi 214 then (bif Nat.ble mi 193 then (mw_b_3_0 mi) else (bif Nat.ble mi 203 then (mw_b_3_1 mi) else (mw_b_3_2 mi))) else (bif Nat.ble mi 224 then (mw_b_3_3 mi) else (bif Nat.ble mi 234 then (mw_b_3_4 mi) else (mw_b_3_5 mi)))
def mw_b_4_0_0 (mi : Nat) : ByteArray := bif Nat.ble mi 247 then (bif Nat.ble mi 246 then (bif Nat.beq mi 246 then prog_17_method_51_code else ⟨#[]⟩) else (bif Nat.beq mi 247 then prog_17_method_52_code else ⟨#[]⟩)) else (bif Nat.ble mi 248 then (bif Nat.beq mi 248 then prog_17_method_53_code else ⟨#[]⟩) else (bif Nat.ble mi 249 then (bif Nat.beq mi 249 then prog_17_method_54_code else ⟨#[]⟩) else (bif Nat.beq mi 250 then prog_17_method_55_code else ⟨#[]⟩)))
def mw_b_4_0_1 (mi : Nat) : ByteArray := bif Nat.ble mi 252 then (bif Nat.ble mi 251 then (bif Nat.beq mi 251 then prog_17_method_56_code else ⟨#[]⟩) else (bif Nat.beq mi 252 then prog_17_method_57_code else ⟨#[]⟩)) else (bif Nat.ble mi 253 then (bif Nat.beq mi 253 then prog_17_method_58_code else ⟨#[]⟩) else (bif Nat.ble mi 254 then (bif Nat.beq mi 254 then prog_17_method_59_code else ⟨#[]⟩) else (bif Nat.beq mi 255 then prog_17_method_60_code else ⟨#[]⟩)))
def mw_b_4_0 (mi : Nat) : ByteArray := bif Nat.ble mi 250 then (mw_b_4_0_0 mi) else (mw_b_4_0_1 mi)
def mw_b_4_1_0 (mi : Nat) : ByteArray := bif Nat.ble mi 257 then (bif Nat.ble mi 256 then (bif Nat.beq mi 256 then prog_17_method_61_code else ⟨#[]⟩) else (bif Nat.beq mi 257 then prog_17_method_62_code else ⟨#[]⟩)) else (bif Nat.ble mi 258 then (bif Nat.beq mi 258 then prog_17_method_63_code else ⟨#[]⟩) else (bif Nat.ble mi 259 then (bif Nat.beq mi 259 then prog_17_method_64_code else ⟨#[]⟩) else (bif Nat.beq mi 260 then prog_17_method_65_code else ⟨#[]⟩)))
def mw_b_4_1_1 (mi : Nat) : ByteArray := bif Nat.ble mi 262 then (bif Nat.ble mi 261 then (bif Nat.beq mi 261 then prog_17_method_66_code else ⟨#[]⟩) else (bif Nat.beq mi 262 then prog_17_method_67_code else ⟨#[]⟩)) else (bif Nat.ble mi 263 then (bif Nat.beq mi 263 then prog_17_method_68_code else ⟨#[]⟩) else (bif Nat.ble mi 264 then (bif Nat.beq mi 264 then prog_17_method_69_code else ⟨#[]⟩) else (bif Nat.beq mi 265 then prog_17_method_70_code else ⟨#[]⟩)))
def mw_b_4_1 (mi : Nat) : ByteArray := bif Nat.ble mi 260 then (mw_b_4_1_0 mi) else (mw_b_4_1_1 mi)
def mw_b_4_2_0 (mi : Nat) : ByteArray := bif Nat.ble mi 267 then (bif Nat.ble mi 266 then (bif Nat.beq mi 266 then prog_17_method_71_code else ⟨#[]⟩) else (bif Nat.beq mi 267 then prog_17_method_72_code else ⟨#[]⟩)) else (bif Nat.ble mi 268 then (bif Nat.beq mi 268 then prog_17_method_73_code else ⟨#[]⟩) else (bif Nat.ble mi 269 then (bif Nat.beq mi 269 then prog_17_method_74_code else ⟨#[]⟩) else (bif Nat.beq mi 270 then prog_17_method_75_code else ⟨#[]⟩)))
def mw_b_4_2_1 (mi : Nat) : ByteArray := bif Nat.ble mi 272 then (bif Nat.ble mi 271 then (bif Nat.beq mi 271 then prog_17_method_76_code else ⟨#[]⟩) else (bif Nat.beq mi 272 then prog_17_method_77_code else ⟨#[]⟩)) else (bif Nat.ble mi 273 then (bif Nat.beq mi 273 then prog_17_method_78_code else ⟨#[]⟩) else (bif Nat.ble mi 274 then (bif Nat.beq mi 274 then prog_17_method_79_code else ⟨#[]⟩) else (bif Nat.beq mi 275 then prog_17_method_80_code else ⟨#[]⟩)))
def mw_b_4_2 (mi : Nat) : ByteArray := bif Nat.ble mi 270 then (mw_b_4_2_0 mi) else (mw_b_4_2_1 mi)
def mw_b_4_3_0 (mi : Nat) : ByteArray := bif Nat.ble mi 277 then (bif Nat.ble mi 276 then (bif Nat.beq mi 276 then prog_17_method_81_code else ⟨#[]⟩) else (bif Nat.beq mi 277 then prog_17_method_82_code else ⟨#[]⟩)) else (bif Nat.ble mi 278 then (bif Nat.beq mi 278 then prog_17_method_83_code else ⟨#[]⟩) else (bif Nat.ble mi 279 then (bif Nat.beq mi 279 then prog_17_method_84_code else ⟨#[]⟩) else (bif Nat.beq mi 280 then prog_17_method_85_code else ⟨#[]⟩)))
def mw_b_4_3_1 (mi : Nat) : ByteArray := bif Nat.ble mi 282 then (bif Nat.ble mi 281 then (bif Nat.beq mi 281 then prog_17_method_86_code else ⟨#[]⟩) else (bif Nat.beq mi 282 then prog_17_method_87_code else ⟨#[]⟩)) else (bif Nat.ble mi 283 then (bif Nat.beq mi 283 then prog_17_method_88_code else ⟨#[]⟩) else (bif Nat.ble mi 284 then (bif Nat.beq mi 284 then prog_17_method_89_code else ⟨#[]⟩) else (bif Nat.beq mi 285 then prog_17_method_90_code else ⟨#[]⟩)))
def mw_b_4_3 (mi : Nat) : ByteArray := bif Nat.ble mi 280 then (mw_b_4_3_0 mi) else (mw_b_4_3_1 mi)
def mw_b_4_4_0 (mi : Nat) : ByteArray := bif Nat.ble mi 287 then (bif Nat.ble mi 286 then (bif Nat.beq mi 286 then prog_17_method_91_code else ⟨#[]⟩) else (bif Nat.beq mi 287 then prog_17_method_92_code else ⟨#[]⟩)) else (bif Nat.ble mi 288 then (bif Nat.beq mi 288 then prog_17_method_93_code else ⟨#[]⟩) else (bif Nat.ble mi 289 then (bif Nat.beq mi 289 then prog_17_method_94_code else ⟨#[]⟩) else (bif Nat.beq mi 290 then prog_17_method_95_code else ⟨#[]⟩)))
def mw_b_4_4_1 (mi : Nat) : ByteArray := bif Nat.ble mi 292 then (bif Nat.ble mi 291 then (bif Nat.beq mi 291 then prog_17_method_96_code else ⟨#[]⟩) else (bif Nat.beq mi 292 then prog_17_method_97_code else ⟨#[]⟩)) else (bif Nat.ble mi 293 then (bif Nat.beq mi 293 then prog_17_method_98_code else ⟨#[]⟩) else (bif Nat.ble mi 294 then (bif Nat.beq mi 294 then prog_17_method_99_code else ⟨#[]⟩) else (bif Nat.beq mi 295 then prog_17_method_100_code else ⟨#[]⟩)))
def mw_b_4_4 (mi : Nat) : ByteArray := bif Nat.ble mi 290 then (mw_b_4_4_0 mi) else (mw_b_4_4_1 mi)
def mw_b_4_5_0 (mi : Nat) : ByteArray := bif Nat.ble mi 297 then (bif Nat.ble mi 296 then (bif Nat.beq mi 296 then prog_17_method_101_code else ⟨#[]⟩) else (bif Nat.beq mi 297 then prog_17_method_102_code else ⟨#[]⟩)) else (bif Nat.ble mi 298 then (bif Nat.beq mi 298 then prog_17_method_103_code else ⟨#[]⟩) else (bif Nat.ble mi 299 then (bif Nat.beq mi 299 then prog_17_method_104_code else ⟨#[]⟩) else (bif Nat.beq mi 300 then prog_17_method_105_code else ⟨#[]⟩)))
def mw_b_4_5_1 (mi : Nat) : ByteArray := bif Nat.ble mi 303 then (bif Nat.ble mi 301 then (bif Nat.beq mi 301 then prog_17_method_106_code else ⟨#[]⟩) else (bif Nat.ble mi 302 then (bif Nat.beq mi 302 then prog_17_method_107_code else ⟨#[]⟩) else (bif Nat.beq mi 303 then prog_17_method_108_code else ⟨#[]⟩))) else (bif Nat.ble mi 304 then (bif Nat.beq mi 304 then prog_17_method_109_code else ⟨#[]⟩) else (bif Nat.ble mi 305 then (bif Nat.beq mi 305 then prog_17_method_110_code else ⟨#[]⟩) else (bif Nat.beq mi 306 then prog_17_method_111_code else ⟨#[]⟩)))
def mw_b_4_5 (mi : Nat) : ByteArray := bif Nat.ble mi 300 then (mw_b_4_5_0 mi) else (mw_b_4_5_1 mi)
def mw_b_4 (mi : Nat) : ByteArray := bif Nat.ble mi 275 then (bif Nat.ble mi 255 then (mw_b_4_0 mi) else (bif Nat.ble mi 265 then (mw_b_4_1 mi) else (mw_b_4_2 mi))) else (bif Nat.ble mi 285 then (mw_b_4_3 mi) else (bif Nat.ble mi 295 then (mw_b_4_4 mi) else (mw_b_4_5 mi)))
def mw_b_5_0_0 (mi : Nat) : ByteArray := bif Nat.ble mi 308 then (bif Nat.ble mi 307 then (bif Nat.beq mi 307 then prog_17_method_112_code else ⟨#[]⟩) else (bif Nat.beq mi 308 then prog_17_method_113_code else ⟨#[]⟩)) else (bif Nat.ble mi 309 then (bif Nat.beq mi 309 then prog_17_method_114_code else ⟨#[]⟩) else (bif Nat.ble mi 310 then (bif Nat.beq mi 310 then prog_17_method_115_code else ⟨#[]⟩) else (bif Nat.beq mi 311 then prog_17_method_116_code else ⟨#[]⟩)))
def mw_b_5_0_1 (mi : Nat) : ByteArray := bif Nat.ble mi 313 then (bif Nat.ble mi 312 then (bif Nat.beq mi 312 then prog_17_method_117_code else ⟨#[]⟩) else (bif Nat.beq mi 313 then prog_17_method_118_code else ⟨#[]⟩)) else (bif Nat.ble mi 314 then (bif Nat.beq mi 314 then prog_17_method_119_code else ⟨#[]⟩) else (bif Nat.ble mi 315 then (bif Nat.beq mi 315 then prog_17_method_120_code else ⟨#[]⟩) else (bif Nat.beq mi 316 then prog_17_method_121_code else ⟨#[]⟩)))
def mw_b_5_0 (mi : Nat) : ByteArray := bif Nat.ble mi 311 then (mw_b_5_0_0 mi) else (mw_b_5_0_1 mi)
def mw_b_5_1_0 (mi : Nat) : ByteArray := bif Nat.ble mi 318 then (bif Nat.ble mi 317 then (bif Nat.beq mi 317 then prog_17_method_122_code else ⟨#[]⟩) else (bif Nat.beq mi 318 then prog_17_method_123_code else ⟨#[]⟩)) else (bif Nat.ble mi 319 then (bif Nat.beq mi 319 then prog_17_method_124_code else ⟨#[]⟩) else (bif Nat.ble mi 320 then (bif Nat.beq mi 320 then prog_17_method_125_code else ⟨#[]⟩) else (bif Nat.beq mi 321 then prog_17_method_126_code else ⟨#[]⟩)))
def mw_b_5_1_1 (mi : Nat) : ByteArray := bif Nat.ble mi 323 then (bif Nat.ble mi 322 then (bif Nat.beq mi 322 then prog_17_method_127_code else ⟨#[]⟩) else (bif Nat.beq mi 323 then prog_17_method_128_code else ⟨#[]⟩)) else (bif Nat.ble mi 324 then (bif Nat.beq mi 324 then prog_17_method_129_code else ⟨#[]⟩) else (bif Nat.ble mi 325 then (bif Nat.beq mi 325 then prog_17_method_130_code else ⟨#[]⟩) else (bif Nat.beq mi 326 then prog_17_method_131_code else ⟨#[]⟩)))
def mw_b_5_1 (mi : Nat) : ByteArray := bif Nat.ble mi 321 then (mw_b_5_1_0 mi) else (mw_b_5_1_1 mi)
def mw_b_5_2_0 (mi : Nat) : ByteArray := bif Nat.ble mi 328 then (bif Nat.ble mi 327 then (bif Nat.beq mi 327 then prog_17_method_132_code else ⟨#[]⟩) else (bif Nat.beq mi 328 then prog_17_method_133_code else ⟨#[]⟩)) else (bif Nat.ble mi 329 then (bif Nat.beq mi 329 then prog_17_method_134_code else ⟨#[]⟩) else (bif Nat.ble mi 330 then (bif Nat.beq mi 330 then prog_17_method_135_code else ⟨#[]⟩) else (bif Nat.beq mi 331 then prog_17_method_136_code else ⟨#[]⟩)))
def mw_b_5_2_1 (mi : Nat) : ByteArray := bif Nat.ble mi 334 then (bif Nat.ble mi 332 then (bif Nat.beq mi 332 then prog_17_method_137_code else ⟨#[]⟩) else (bif Nat.ble mi 333 then (bif Nat.beq mi 333 then prog_17_method_138_code else ⟨#[]⟩) else (bif Nat.beq mi 334 then prog_17_method_139_code else ⟨#[]⟩))) else (bif Nat.ble mi 335 then (bif Nat.beq mi 335 then prog_17_method_140_code else ⟨#[]⟩) else (bif Nat.ble mi 336 then (bif Nat.beq mi 336 then prog_17_method_141_code else ⟨#[]⟩) else (bif Nat.beq mi 337 then prog_17_method_142_code else ⟨#[]⟩)))
def mw_b_5_2 (mi : Nat) : ByteArray := bif Nat.ble mi 331 then (mw_b_5_2_0 mi) else (mw_b_5_2_1 mi)
def mw_b_5_3_0 (mi : Nat) : ByteArray := bif Nat.ble mi 339 then (bif Nat.ble mi 338 then (bif Nat.beq mi 338 then prog_17_method_143_code else ⟨#[]⟩) else (bif Nat.beq mi 339 then prog_17_method_144_code else ⟨#[]⟩)) else (bif Nat.ble mi 340 then (bif Nat.beq mi 340 then prog_17_method_145_code else ⟨#[]⟩) else (bif Nat.ble mi 341 then (bif Nat.beq mi 341 then prog_17_method_146_code else ⟨#[]⟩) else (bif Nat.beq mi 342 then prog_17_method_147_code else ⟨#[]⟩)))
def mw_b_5_3_1 (mi : Nat) : ByteArray := bif Nat.ble mi 344 then (bif Nat.ble mi 343 then (bif Nat.beq mi 343 then prog_17_method_148_code else ⟨#[]⟩) else (bif Nat.beq mi 344 then prog_17_method_149_code else ⟨#[]⟩)) else (bif Nat.ble mi 345 then (bif Nat.beq mi 345 then prog_17_method_150_code else ⟨#[]⟩) else (bif Nat.ble mi 346 then (bif Nat.beq mi 346 then prog_17_method_151_code else ⟨#[]⟩) else (bif Nat.beq mi 347 then prog_17_method_152_code else ⟨#[]⟩)))
def mw_b_5_3 (mi : Nat) : ByteArray := bif Nat.ble mi 342 then (mw_b_5_3_0 mi) else (mw_b_5_3_1 mi)
def mw_b_5_4_0 (mi : Nat) : ByteArray := bif Nat.ble mi 349 then (bif Nat.ble mi 348 then (bif Nat.beq mi 348 then prog_17_method_153_code else ⟨#[]⟩) else (bif Nat.beq mi 349 then prog_17_method_154_code else ⟨#[]⟩)) else (bif Nat.ble mi 350 then (bif Nat.beq mi 350 then prog_17_method_155_code else ⟨#[]⟩) else (bif Nat.ble mi 351 then (bif Nat.beq mi 351 then prog_17_method_156_code else ⟨#[]⟩) else (bif Nat.beq mi 352 then prog_17_method_157_code else ⟨#[]⟩)))
def mw_b_5_4_1 (mi : Nat) : ByteArray := bif Nat.ble mi 354 then (bif Nat.ble mi 353 then (bif Nat.beq mi 353 then prog_17_method_158_code else ⟨#[]⟩) else (bif Nat.beq mi 354 then prog_17_method_159_code else ⟨#[]⟩)) else (bif Nat.ble mi 355 then (bif Nat.beq mi 355 then prog_17_method_160_code else ⟨#[]⟩) else (bif Nat.ble mi 356 then (bif Nat.beq mi 356 then prog_17_method_161_code else ⟨#[]⟩) else (bif Nat.beq mi 357 then prog_17_method_162_code else ⟨#[]⟩)))
def mw_b_5_4 (mi : Nat) : ByteArray := bif Nat.ble mi 352 then (mw_b_5_4_0 mi) else (mw_b_5_4_1 mi)
def mw_b_5_5_0 (mi : Nat) : ByteArray := bif Nat.ble mi 359 then (bif Nat.ble mi 358 then (bif Nat.beq mi 358 then prog_17_method_163_code else ⟨#[]⟩) else (bif Nat.beq mi 359 then prog_17_method_164_code else ⟨#[]⟩)) else (bif Nat.ble mi 360 then (bif Nat.beq mi 360 then prog_17_method_165_code else ⟨#[]⟩) else (bif Nat.ble mi 361 then (bif Nat.beq mi 361 then prog_17_method_166_code else ⟨#[]⟩) else (bif Nat.beq mi 362 then prog_17_method_167_code else ⟨#[]⟩)))
def mw_b_5_5_1 (mi : Nat) : ByteArray := bif Nat.ble mi 365 then (bif Nat.ble mi 363 then (bif Nat.beq mi 363 then prog_17_method_168_code else ⟨#[]⟩) else (bif Nat.ble mi 364 then (bif Nat.beq mi 364 then prog_17_method_169_code else ⟨#[]⟩) else (bif Nat.beq mi 365 then prog_17_method_170_code else ⟨#[]⟩))) else (bif Nat.ble mi 366 then (bif Nat.beq mi 366 then prog_25_method_65_code else ⟨#[]⟩) else (bif Nat.ble mi 367 then (bif Nat.beq mi 367 then prog_25_method_69_code else ⟨#[]⟩) else (bif Nat.beq mi 368 then prog_25_method_70_code else ⟨#[]⟩)))
def mw_b_5_5 (mi : Nat) : ByteArray := bif Nat.ble mi 362 then (mw_b_5_5_0 mi) else (mw_b_5_5_1 mi)
def mw_b_5 (mi : Nat) : ByteArray := bif Nat.ble mi 337 then (bif Nat.ble mi 316 then (mw_b_5_0 mi) else (bif Nat.ble mi 326 then (mw_b_5_1 mi) else (mw_b_5_2 mi))) else (bif Nat.ble mi 347 then (mw_b_5_3 mi) else (bif Nat.ble mi 357 then (mw_b_5_4 mi) else (mw_b_5_5 mi)))
def mw_b (mi : Nat) : ByteArray := bif Nat.ble mi 183 then (bif Nat.ble mi 60 then (mw_b_0 mi) else (bif Nat.ble mi 122 then (mw_b_1 mi) else (mw_b_2 mi))) else (bif Nat.ble mi 245 then (mw_b_3 mi) else (bif Nat.ble mi 306 then (mw_b_4 mi) else (mw_b_5 mi)))
def mw_l_0_0_0 (mi : Nat) : Nat := bif Nat.ble mi 1 then (bif Nat.ble mi 0 then (bif Nat.beq mi 0 then 6 else 0) else (bif Nat.beq mi 1 then 1 else 0)) else (bif Nat.ble mi 2 then (bif Nat.beq mi 2 then 1 else 0) else (bif Nat.ble mi 3 then (bif Nat.beq mi 3 then 1 else 0) else (bif Nat.beq mi 4 then 2 else 0)))
def mw_l_0_0_1 (mi : Nat) : Nat := bif Nat.ble mi 6 then (bif Nat.ble mi 5 then (bif Nat.beq mi 5 then 1 else 0) else (bif Nat.beq mi 6 then 1 else 0)) else (bif Nat.ble mi 7 then (bif Nat.beq mi 7 then 1 else 0) else (bif Nat.ble mi 8 then (bif Nat.beq mi 8 then 2 else 0) else (bif Nat.beq mi 9 then 5 else 0)))
def mw_l_0_0 (mi : Nat) : Nat := bif Nat.ble mi 4 then (mw_l_0_0_0 mi) else (mw_l_0_0_1 mi)
def mw_l_0_1_0 (mi : Nat) : Nat := bif Nat.ble mi 11 then (bif Nat.ble mi 10 then (bif Nat.beq mi 10 then 2 else 0) else (bif Nat.beq mi 11 then 4 else 0)) else (bif Nat.ble mi 12 then (bif Nat.beq mi 12 then 3 else 0) else (bif Nat.ble mi 13 then (bif Nat.beq mi 13 then 5 else 0) else (bif Nat.beq mi 14 then 2 else 0)))
def mw_l_0_1_1 (mi : Nat) : Nat := bif Nat.ble mi 16 then (bif Nat.ble mi 15 then (bif Nat.beq mi 15 then 4 else 0) else (bif Nat.beq mi 16 then 4 else 0)) else (bif Nat.ble mi 17 then (bif Nat.beq mi 17 then 9 else 0) else (bif Nat.ble mi 18 then (bif Nat.beq mi 18 then 4 else 0) else (bif Nat.beq mi 19 then 2 else 0)))
def mw_l_0_1 (mi : Nat) : Nat := bif Nat.ble mi 14 then (mw_l_0_1_0 mi) else (mw_l_0_1_1 mi)
def mw_l_0_2_0 (mi : Nat) : Nat := bif Nat.ble mi 21 then (bif Nat.ble mi 20 then (bif Nat.beq mi 20 then 2 else 0) else (bif Nat.beq mi 21 then 5 else 0)) else (bif Nat.ble mi 22 then (bif Nat.beq mi 22 then 5 else 0) else (bif Nat.ble mi 23 then (bif Nat.beq mi 23 then 3 else 0) else (bif Nat.beq mi 24 then 4 else 0)))
def mw_l_0_2_1 (mi : Nat) : Nat := bif Nat.ble mi 26 then (bif Nat.ble mi 25 then (bif Nat.beq mi 25 then 4 else 0) else (bif Nat.beq mi 26 then 4 else 0)) else (bif Nat.ble mi 27 then (bif Nat.beq mi 27 then 4 else 0) else (bif Nat.ble mi 28 then (bif Nat.beq mi 28 then 2 else 0) else (bif Nat.beq mi 29 then 4 else 0)))
def mw_l_0_2 (mi : Nat) : Nat := bif Nat.ble mi 24 then (mw_l_0_2_0 mi) else (mw_l_0_2_1 mi)
def mw_l_0_3_0 (mi : Nat) : Nat := bif Nat.ble mi 31 then (bif Nat.ble mi 30 then (bif Nat.beq mi 30 then 4 else 0) else (bif Nat.beq mi 31 then 2 else 0)) else (bif Nat.ble mi 32 then (bif Nat.beq mi 32 then 2 else 0) else (bif Nat.ble mi 33 then (bif Nat.beq mi 33 then 2 else 0) else (bif Nat.beq mi 34 then 2 else 0)))
def mw_l_0_3_1 (mi : Nat) : Nat := bif Nat.ble mi 36 then (bif Nat.ble mi 35 then (bif Nat.beq mi 35 then 4 else 0) else (bif Nat.beq mi 36 then 1 else 0)) else (bif Nat.ble mi 37 then (bif Nat.beq mi 37 then 4 else 0) else (bif Nat.ble mi 38 then (bif Nat.beq mi 38 then 3 else 0) else (bif Nat.beq mi 39 then 1 else 0)))
def mw_l_0_3 (mi : Nat) : Nat := bif Nat.ble mi 34 then (mw_l_0_3_0 mi) else (mw_l_0_3_1 mi)
def mw_l_0_4_0 (mi : Nat) : Nat := bif Nat.ble mi 41 then (bif Nat.ble mi 40 then (bif Nat.beq mi 40 then 2 else 0) else (bif Nat.beq mi 41 then 2 else 0)) else (bif Nat.ble mi 42 then (bif Nat.beq mi 42 then 2 else 0) else (bif Nat.ble mi 43 then (bif Nat.beq mi 43 then 4 else 0) else (bif Nat.beq mi 44 then 1 else 0)))
def mw_l_0_4_1 (mi : Nat) : Nat := bif Nat.ble mi 46 then (bif Nat.ble mi 45 then (bif Nat.beq mi 45 then 2 else 0) else (bif Nat.beq mi 46 then 2 else 0)) else (bif Nat.ble mi 47 then (bif Nat.beq mi 47 then 6 else 0) else (bif Nat.ble mi 48 then (bif Nat.beq mi 48 then 9 else 0) else (bif Nat.beq mi 49 then 2 else 0)))
def mw_l_0_4 (mi : Nat) : Nat := bif Nat.ble mi 44 then (mw_l_0_4_0 mi) else (mw_l_0_4_1 mi)
def mw_l_0_5_0 (mi : Nat) : Nat := bif Nat.ble mi 51 then (bif Nat.ble mi 50 then (bif Nat.beq mi 50 then 8 else 0) else (bif Nat.beq mi 51 then 10 else 0)) else (bif Nat.ble mi 52 then (bif Nat.beq mi 52 then 5 else 0) else (bif Nat.ble mi 53 then (bif Nat.beq mi 53 then 9 else 0) else (bif Nat.beq mi 54 then 2 else 0)))
def mw_l_0_5_1 (mi : Nat) : Nat := bif Nat.ble mi 57 then (bif Nat.ble mi 55 then (bif Nat.beq mi 55 then 1 else 0) else (bif Nat.ble mi 56 then (bif Nat.beq mi 56 then 2 else 0) else (bif Nat.beq mi 57 then 1 else 0))) else (bif Nat.ble mi 58 then (bif Nat.beq mi 58 then 1 else 0) else (bif Nat.ble mi 59 then (bif Nat.beq mi 59 then 4 else 0) else (bif Nat.beq mi 60 then 9 else 0)))
def mw_l_0_5 (mi : Nat) : Nat := bif Nat.ble mi 54 then (mw_l_0_5_0 mi) else (mw_l_0_5_1 mi)
def mw_l_0 (mi : Nat) : Nat := bif Nat.ble mi 29 then (bif Nat.ble mi 9 then (mw_l_0_0 mi) else (bif Nat.ble mi 19 then (mw_l_0_1 mi) else (mw_l_0_2 mi))) else (bif Nat.ble mi 39 then (mw_l_0_3 mi) else (bif Nat.ble mi 49 then (mw_l_0_4 mi) else (mw_l_0_5 mi)))
def mw_l_1_0_0 (mi : Nat) : Nat := bif Nat.ble mi 62 then (bif Nat.ble mi 61 then (bif Nat.beq mi 61 then 2 else 0) else (bif Nat.beq mi 62 then 3 else 0)) else (bif Nat.ble mi 63 then (bif Nat.beq mi 63 then 4 else 0) else (bif Nat.ble mi 64 then (bif Nat.beq mi 64 then 3 else 0) else (bif Nat.beq mi 65 then 2 else 0)))
def mw_l_1_0_1 (mi : Nat) : Nat := bif Nat.ble mi 67 then (bif Nat.ble mi 66 then (bif Nat.beq mi 66 then 4 else 0) else (bif Nat.beq mi 67 then 2 else 0)) else (bif Nat.ble mi 68 then (bif Nat.beq mi 68 then 3 else 0) else (bif Nat.ble mi 69 then (bif Nat.beq mi 69 then 2 else 0) else (bif Nat.beq mi 70 then 1 else 0)))
def mw_l_1_0 (mi : Nat) : Nat := bif Nat.ble mi 65 then (mw_l_1_0_0 mi) else (mw_l_1_0_1 mi)
def mw_l_1_1_0 (mi : Nat) : Nat := bif Nat.ble mi 72 then (bif Nat.ble mi 71 then (bif Nat.beq mi 71 then 9 else 0) else (bif Nat.beq mi 72 then 6 else 0)) else (bif Nat.ble mi 73 then (bif Nat.beq mi 73 then 9 else 0) else (bif Nat.ble mi 74 then (bif Nat.beq mi 74 then 6 else 0) else (bif Nat.beq mi 75 then 3 else 0)))
def mw_l_1_1_1 (mi : Nat) : Nat := bif Nat.ble mi 77 then (bif Nat.ble mi 76 then (bif Nat.beq mi 76 then 8 else 0) else (bif Nat.beq mi 77 then 5 else 0)) else (bif Nat.ble mi 78 then (bif Nat.beq mi 78 then 5 else 0) else (bif Nat.ble mi 79 then (bif Nat.beq mi 79 then 3 else 0) else (bif Nat.beq mi 80 then 3 else 0)))
def mw_l_1_1 (mi : Nat) : Nat := bif Nat.ble mi 75 then (mw_l_1_1_0 mi) else (mw_l_1_1_1 mi)
def mw_l_1_2_0 (mi : Nat) : Nat := bif Nat.ble mi 82 then (bif Nat.ble mi 81 then (bif Nat.beq mi 81 then 5 else 0) else (bif Nat.beq mi 82 then 4 else 0)) else (bif Nat.ble mi 83 then (bif Nat.beq mi 83 then 6 else 0) else (bif Nat.ble mi 84 then (bif Nat.beq mi 84 then 5 else 0) else (bif Nat.beq mi 85 then 7 else 0)))
def mw_l_1_2_1 (mi : Nat) : Nat := bif Nat.ble mi 88 then (bif Nat.ble mi 86 then (bif Nat.beq mi 86 then 5 else 0) else (bif Nat.ble mi 87 then (bif Nat.beq mi 87 then 5 else 0) else (bif Nat.beq mi 88 then 4 else 0))) else (bif Nat.ble mi 89 then (bif Nat.beq mi 89 then 5 else 0) else (bif Nat.ble mi 90 then (bif Nat.beq mi 90 then 4 else 0) else (bif Nat.beq mi 91 then 1 else 0)))
def mw_l_1_2 (mi : Nat) : Nat := bif Nat.ble mi 85 then (mw_l_1_2_0 mi) else (mw_l_1_2_1 mi)
def mw_l_1_3_0 (mi : Nat) : Nat := bif Nat.ble mi 93 then (bif Nat.ble mi 92 then (bif Nat.beq mi 92 then 1 else 0) else (bif Nat.beq mi 93 then 2 else 0)) else (bif Nat.ble mi 94 then (bif Nat.beq mi 94 then 3 else 0) else (bif Nat.ble mi 95 then (bif Nat.beq mi 95 then 2 else 0) else (bif Nat.beq mi 96 then 2 else 0)))
def mw_l_1_3_1 (mi : Nat) : Nat := bif Nat.ble mi 98 then (bif Nat.ble mi 97 then (bif Nat.beq mi 97 then 9 else 0) else (bif Nat.beq mi 98 then 4 else 0)) else (bif Nat.ble mi 99 then (bif Nat.beq mi 99 then 5 else 0) else (bif Nat.ble mi 100 then (bif Nat.beq mi 100 then 2 else 0) else (bif Nat.beq mi 101 then 2 else 0)))
def mw_l_1_3 (mi : Nat) : Nat := bif Nat.ble mi 96 then (mw_l_1_3_0 mi) else (mw_l_1_3_1 mi)
def mw_l_1_4_0 (mi : Nat) : Nat := bif Nat.ble mi 103 then (bif Nat.ble mi 102 then (bif Nat.beq mi 102 then 2 else 0) else (bif Nat.beq mi 103 then 5 else 0)) else (bif Nat.ble mi 104 then (bif Nat.beq mi 104 then 2 else 0) else (bif Nat.ble mi 105 then (bif Nat.beq mi 105 then 2 else 0) else (bif Nat.beq mi 106 then 4 else 0)))
def mw_l_1_4_1 (mi : Nat) : Nat := bif Nat.ble mi 108 then (bif Nat.ble mi 107 then (bif Nat.beq mi 107 then 11 else 0) else (bif Nat.beq mi 108 then 7 else 0)) else (bif Nat.ble mi 109 then (bif Nat.beq mi 109 then 3 else 0) else (bif Nat.ble mi 110 then (bif Nat.beq mi 110 then 2 else 0) else (bif Nat.beq mi 111 then 7 else 0)))
def mw_l_1_4 (mi : Nat) : Nat := bif Nat.ble mi 106 then (mw_l_1_4_0 mi) else (mw_l_1_4_1 mi)
def mw_l_1_5_0 (mi : Nat) : Nat := bif Nat.ble mi 113 then (bif Nat.ble mi 112 then (bif Nat.beq mi 112 then 4 else 0) else (bif Nat.beq mi 113 then 4 else 0)) else (bif Nat.ble mi 114 then (bif Nat.beq mi 114 then 9 else 0) else (bif Nat.ble mi 115 then (bif Nat.beq mi 115 then 6 else 0) else (bif Nat.beq mi 116 then 3 else 0)))
def mw_l_1_5_1 (mi : Nat) : Nat := bif Nat.ble mi 119 then (bif Nat.ble mi 117 then (bif Nat.beq mi 117 then 3 else 0) else (bif Nat.ble mi 118 then (bif Nat.beq mi 118 then 6 else 0) else (bif Nat.beq mi 119 then 8 else 0))) else (bif Nat.ble mi 120 then (bif Nat.beq mi 120 then 6 else 0) else (bif Nat.ble mi 121 then (bif Nat.beq mi 121 then 8 else 0) else (bif Nat.beq mi 122 then 4 else 0)))
def mw_l_1_5 (mi : Nat) : Nat := bif Nat.ble mi 116 then (mw_l_1_5_0 mi) else (mw_l_1_5_1 mi)
def mw_l_1 (mi : Nat) : Nat := bif Nat.ble mi 91 then (bif Nat.ble mi 70 then (mw_l_1_0 mi) else (bif Nat.ble mi 80 then (mw_l_1_1 mi) else (mw_l_1_2 mi))) else (bif Nat.ble mi 101 then (mw_l_1_3 mi) else (bif Nat.ble mi 111 then (mw_l_1_4 mi) else (mw_l_1_5 mi)))
def mw_l_2_0_0 (mi : Nat) : Nat := bif Nat.ble mi 124 then (bif Nat.ble mi 123 then (bif Nat.beq mi 123 then 10 else 0) else (bif Nat.beq mi 124 then 9 else 0)) else (bif Nat.ble mi 125 then (bif Nat.beq mi 125 then 8 else 0) else (bif Nat.ble mi 126 then (bif Nat.beq mi 126 then 5 else 0) else (bif Nat.beq mi 127 then 3 else 0)))
def mw_l_2_0_1 (mi : Nat) : Nat := bif Nat.ble mi 129 then (bif Nat.ble mi 128 then (bif Nat.beq mi 128 then 2 else 0) else (bif Nat.beq mi 129 then 5 else 0)) else (bif Nat.ble mi 130 then (bif Nat.beq mi 130 then 1 else 0) else (bif Nat.ble mi 131 then (bif Nat.beq mi 131 then 2 else 0) else (bif Nat.beq mi 132 then 3 else 0)))
def mw_l_2_0 (mi : Nat) : Nat := bif Nat.ble mi 127 then (mw_l_2_0_0 mi) else (mw_l_2_0_1 mi)
def mw_l_2_1_0 (mi : Nat) : Nat := bif Nat.ble mi 134 then (bif Nat.ble mi 133 then (bif Nat.beq mi 133 then 3 else 0) else (bif Nat.beq mi 134 then 2 else 0)) else (bif Nat.ble mi 135 then (bif Nat.beq mi 135 then 3 else 0) else (bif Nat.ble mi 136 then (bif Nat.beq mi 136 then 5 else 0) else (bif Nat.beq mi 137 then 2 else 0)))
def mw_l_2_1_1 (mi : Nat) : Nat := bif Nat.ble mi 139 then (bif Nat.ble mi 138 then (bif Nat.beq mi 138 then 3 else 0) else (bif Nat.beq mi 139 then 6 else 0)) else (bif Nat.ble mi 140 then (bif Nat.beq mi 140 then 2 else 0) else (bif Nat.ble mi 141 then (bif Nat.beq mi 141 then 2 else 0) else (bif Nat.beq mi 142 then 3 else 0)))
def mw_l_2_1 (mi : Nat) : Nat := bif Nat.ble mi 137 then (mw_l_2_1_0 mi) else (mw_l_2_1_1 mi)
def mw_l_2_2_0 (mi : Nat) : Nat := bif Nat.ble mi 144 then (bif Nat.ble mi 143 then (bif Nat.beq mi 143 then 7 else 0) else (bif Nat.beq mi 144 then 4 else 0)) else (bif Nat.ble mi 145 then (bif Nat.beq mi 145 then 5 else 0) else (bif Nat.ble mi 146 then (bif Nat.beq mi 146 then 7 else 0) else (bif Nat.beq mi 147 then 4 else 0)))
def mw_l_2_2_1 (mi : Nat) : Nat := bif Nat.ble mi 149 then (bif Nat.ble mi 148 then (bif Nat.beq mi 148 then 5 else 0) else (bif Nat.beq mi 149 then 2 else 0)) else (bif Nat.ble mi 150 then (bif Nat.beq mi 150 then 4 else 0) else (bif Nat.ble mi 151 then (bif Nat.beq mi 151 then 11 else 0) else (bif Nat.beq mi 152 then 3 else 0)))
def mw_l_2_2 (mi : Nat) : Nat := bif Nat.ble mi 147 then (mw_l_2_2_0 mi) else (mw_l_2_2_1 mi)
def mw_l_2_3_0 (mi : Nat) : Nat := bif Nat.ble mi 154 then (bif Nat.ble mi 153 then (bif Nat.beq mi 153 then 6 else 0) else (bif Nat.beq mi 154 then 11 else 0)) else (bif Nat.ble mi 155 then (bif Nat.beq mi 155 then 2 else 0) else (bif Nat.ble mi 156 then (bif Nat.beq mi 156 then 5 else 0) else (bif Nat.beq mi 157 then 4 else 0)))
def mw_l_2_3_1 (mi : Nat) : Nat := bif Nat.ble mi 159 then (bif Nat.ble mi 158 then (bif Nat.beq mi 158 then 3 else 0) else (bif Nat.beq mi 159 then 3 else 0)) else (bif Nat.ble mi 160 then (bif Nat.beq mi 160 then 7 else 0) else (bif Nat.ble mi 161 then (bif Nat.beq mi 161 then 2 else 0) else (bif Nat.beq mi 162 then 1 else 0)))
def mw_l_2_3 (mi : Nat) : Nat := bif Nat.ble mi 157 then (mw_l_2_3_0 mi) else (mw_l_2_3_1 mi)
def mw_l_2_4_0 (mi : Nat) : Nat := bif Nat.ble mi 164 then (bif Nat.ble mi 163 then (bif Nat.beq mi 163 then 1 else 0) else (bif Nat.beq mi 164 then 1 else 0)) else (bif Nat.ble mi 165 then (bif Nat.beq mi 165 then 1 else 0) else (bif Nat.ble mi 166 then (bif Nat.beq mi 166 then 1 else 0) else (bif Nat.beq mi 167 then 1 else 0)))
def mw_l_2_4_1 (mi : Nat) : Nat := bif Nat.ble mi 169 then (bif Nat.ble mi 168 then (bif Nat.beq mi 168 then 2 else 0) else (bif Nat.beq mi 169 then 3 else 0)) else (bif Nat.ble mi 170 then (bif Nat.beq mi 170 then 1 else 0) else (bif Nat.ble mi 171 then (bif Nat.beq mi 171 then 2 else 0) else (bif Nat.beq mi 172 then 1 else 0)))
def mw_l_2_4 (mi : Nat) : Nat := bif Nat.ble mi 167 then (mw_l_2_4_0 mi) else (mw_l_2_4_1 mi)
def mw_l_2_5_0 (mi : Nat) : Nat := bif Nat.ble mi 174 then (bif Nat.ble mi 173 then (bif Nat.beq mi 173 then 1 else 0) else (bif Nat.beq mi 174 then 2 else 0)) else (bif Nat.ble mi 175 then (bif Nat.beq mi 175 then 2 else 0) else (bif Nat.ble mi 176 then (bif Nat.beq mi 176 then 2 else 0) else (bif Nat.beq mi 177 then 1 else 0)))
def mw_l_2_5_1 (mi : Nat) : Nat := bif Nat.ble mi 180 then (bif Nat.ble mi 178 then (bif Nat.beq mi 178 then 4 else 0) else (bif Nat.ble mi 179 then (bif Nat.beq mi 179 then 4 else 0) else (bif Nat.beq mi 180 then 5 else 0))) else (bif Nat.ble mi 181 then (bif Nat.beq mi 181 then 2 else 0) else (bif Nat.ble mi 182 then (bif Nat.beq mi 182 then 4 else 0) else (bif Nat.beq mi 183 then 9 else 0)))
def mw_l_2_5 (mi : Nat) : Nat := bif Nat.ble mi 177 then (mw_l_2_5_0 mi) else (mw_l_2_5_1 mi)
def mw_l_2 (mi : Nat) : Nat := bif Nat.ble mi 152 then (bif Nat.ble mi 132 then (mw_l_2_0 mi) else (bif Nat.ble mi 142 then (mw_l_2_1 mi) else (mw_l_2_2 mi))) else (bif Nat.ble mi 162 then (mw_l_2_3 mi) else (bif Nat.ble mi 172 then (mw_l_2_4 mi) else (mw_l_2_5 mi)))
def mw_l_3_0_0 (mi : Nat) : Nat := bif Nat.ble mi 185 then (bif Nat.ble mi 184 then (bif Nat.beq mi 184 then 3 else 0) else (bif Nat.beq mi 185 then 4 else 0)) else (bif Nat.ble mi 186 then (bif Nat.beq mi 186 then 4 else 0) else (bif Nat.ble mi 187 then (bif Nat.beq mi 187 then 2 else 0) else (bif Nat.beq mi 188 then 2 else 0)))
def mw_l_3_0_1 (mi : Nat) : Nat := bif Nat.ble mi 190 then (bif Nat.ble mi 189 then (bif Nat.beq mi 189 then 2 else 0) else (bif Nat.beq mi 190 then 5 else 0)) else (bif Nat.ble mi 191 then (bif Nat.beq mi 191 then 4 else 0) else (bif Nat.ble mi 192 then (bif Nat.beq mi 192 then 1 else 0) else (bif Nat.beq mi 193 then 2 else 0)))
def mw_l_3_0 (mi : Nat) : Nat := bif Nat.ble mi 188 then (mw_l_3_0_0 mi) else (mw_l_3_0_1 mi)
def mw_l_3_1_0 (mi : Nat) : Nat := bif Nat.ble mi 195 then (bif Nat.ble mi 194 then (bif Nat.beq mi 194 then 2 else 0) else (bif Nat.beq mi 195 then 2 else 0)) else (bif Nat.ble mi 196 then (bif Nat.beq mi 196 then 2 else 0) else (bif Nat.ble mi 197 then (bif Nat.beq mi 197 then 1 else 0) else (bif Nat.beq mi 198 then 4 else 0)))
def mw_l_3_1_1 (mi : Nat) : Nat := bif Nat.ble mi 200 then (bif Nat.ble mi 199 then (bif Nat.beq mi 199 then 3 else 0) else (bif Nat.beq mi 200 then 1 else 0)) else (bif Nat.ble mi 201 then (bif Nat.beq mi 201 then 6 else 0) else (bif Nat.ble mi 202 then (bif Nat.beq mi 202 then 2 else 0) else (bif Nat.beq mi 203 then 3 else 0)))
def mw_l_3_1 (mi : Nat) : Nat := bif Nat.ble mi 198 then (mw_l_3_1_0 mi) else (mw_l_3_1_1 mi)
def mw_l_3_2_0 (mi : Nat) : Nat := bif Nat.ble mi 205 then (bif Nat.ble mi 204 then (bif Nat.beq mi 204 then 1 else 0) else (bif Nat.beq mi 205 then 6 else 0)) else (bif Nat.ble mi 206 then (bif Nat.beq mi 206 then 2 else 0) else (bif Nat.ble mi 207 then (bif Nat.beq mi 207 then 1 else 0) else (bif Nat.beq mi 208 then 1 else 0)))
def mw_l_3_2_1 (mi : Nat) : Nat := bif Nat.ble mi 211 then (bif Nat.ble mi 209 then (bif Nat.beq mi 209 then 1 else 0) else (bif Nat.ble mi 210 then (bif Nat.beq mi 210 then 1 else 0) else (bif Nat.beq mi 211 then 1 else 0))) else (bif Nat.ble mi 212 then (bif Nat.beq mi 212 then 2 else 0) else (bif Nat.ble mi 213 then (bif Nat.beq mi 213 then 2 else 0) else (bif Nat.beq mi 214 then 4 else 0)))
def mw_l_3_2 (mi : Nat) : Nat := bif Nat.ble mi 208 then (mw_l_3_2_0 mi) else (mw_l_3_2_1 mi)
def mw_l_3_3_0 (mi : Nat) : Nat := bif Nat.ble mi 216 then (bif Nat.ble mi 215 then (bif Nat.beq mi 215 then 4 else 0) else (bif Nat.beq mi 216 then 8 else 0)) else (bif Nat.ble mi 217 then (bif Nat.beq mi 217 then 5 else 0) else (bif Nat.ble mi 218 then (bif Nat.beq mi 218 then 2 else 0) else (bif Nat.beq mi 219 then 4 else 0)))
def mw_l_3_3_1 (mi : Nat) : Nat := bif Nat.ble mi 221 then (bif Nat.ble mi 220 then (bif Nat.beq mi 220 then 2 else 0) else (bif Nat.beq mi 221 then 2 else 0)) else (bif Nat.ble mi 222 then (bif Nat.beq mi 222 then 2 else 0) else (bif Nat.ble mi 223 then (bif Nat.beq mi 223 then 1 else 0) else (bif Nat.beq mi 224 then 1 else 0)))
def mw_l_3_3 (mi : Nat) : Nat := bif Nat.ble mi 219 then (mw_l_3_3_0 mi) else (mw_l_3_3_1 mi)
def mw_l_3_4_0 (mi : Nat) : Nat := bif Nat.ble mi 226 then (bif Nat.ble mi 225 then (bif Nat.beq mi 225 then 2 else 0) else (bif Nat.beq mi 226 then 2 else 0)) else (bif Nat.ble mi 227 then (bif Nat.beq mi 227 then 4 else 0) else (bif Nat.ble mi 228 then (bif Nat.beq mi 228 then 2 else 0) else (bif Nat.beq mi 229 then 3 else 0)))
def mw_l_3_4_1 (mi : Nat) : Nat := bif Nat.ble mi 231 then (bif Nat.ble mi 230 then (bif Nat.beq mi 230 then 6 else 0) else (bif Nat.beq mi 231 then 7 else 0)) else (bif Nat.ble mi 232 then (bif Nat.beq mi 232 then 2 else 0) else (bif Nat.ble mi 233 then (bif Nat.beq mi 233 then 1 else 0) else (bif Nat.beq mi 234 then 1 else 0)))
def mw_l_3_4 (mi : Nat) : Nat := bif Nat.ble mi 229 then (mw_l_3_4_0 mi) else (mw_l_3_4_1 mi)
def mw_l_3_5_0 (mi : Nat) : Nat := bif Nat.ble mi 236 then (bif Nat.ble mi 235 then (bif Nat.beq mi 235 then 1 else 0) else (bif Nat.beq mi 236 then 1 else 0)) else (bif Nat.ble mi 237 then (bif Nat.beq mi 237 then 2 else 0) else (bif Nat.ble mi 238 then (bif Nat.beq mi 238 then 2 else 0) else (bif Nat.beq mi 239 then 3 else 0)))
def mw_l_3_5_1 (mi : Nat) : Nat := bif Nat.ble mi 242 then (bif Nat.ble mi 240 then (bif Nat.beq mi 240 then 4 else 0) else (bif Nat.ble mi 241 then (bif Nat.beq mi 241 then 3 else 0) else (bif Nat.beq mi 242 then 4 else 0))) else (bif Nat.ble mi 243 then (bif Nat.beq mi 243 then 4 else 0) else (bif Nat.ble mi 244 then (bif Nat.beq mi 244 then 6 else 0) else (bif Nat.beq mi 245 then 6 else 0)))
def mw_l_3_5 (mi : Nat) : Nat := bif Nat.ble mi 239 then (mw_l_3_5_0 mi) else (mw_l_3_5_1 mi)
def mw_l_3 (mi : Nat) : Nat := bif Nat.ble mi 214 then (bif Nat.ble mi 193 then (mw_l_3_0 mi) else (bif Nat.ble mi 203 then (mw_l_3_1 mi) else (mw_l_3_2 mi))) else (bif Nat.ble mi 224 then (mw_l_3_3 mi) else (bif Nat.ble mi 234 then (mw_l_3_4 mi) else (mw_l_3_5 mi)))
def mw_l_4_0_0 (mi : Nat) : Nat := bif Nat.ble mi 247 then (bif Nat.ble mi 246 then (bif Nat.beq mi 246 then 4 else 0) else (bif Nat.beq mi 247 then 8 else 0)) else (bif Nat.ble mi 248 then (bif Nat.beq mi 248 then 4 else 0) else (bif Nat.ble mi 249 then (bif Nat.beq mi 249 then 8 else 0) else (bif Nat.beq mi 250 then 3 else 0)))
def mw_l_4_0_1 (mi : Nat) : Nat := bif Nat.ble mi 252 then (bif Nat.ble mi 251 then (bif Nat.beq mi 251 then 4 else 0) else (bif Nat.beq mi 252 then 3 else 0)) else (bif Nat.ble mi 253 then (bif Nat.beq mi 253 then 4 else 0) else (bif Nat.ble mi 254 then (bif Nat.beq mi 254 then 6 else 0) else (bif Nat.beq mi 255 then 7 else 0)))
def mw_l_4_0 (mi : Nat) : Nat := bif Nat.ble mi 250 then (mw_l_4_0_0 mi) else (mw_l_4_0_1 mi)
def mw_l_4_1_0 (mi : Nat) : Nat := bif Nat.ble mi 257 then (bif Nat.ble mi 256 then (bif Nat.beq mi 256 then 11 else 0) else (bif Nat.beq mi 257 then 8 else 0)) else (bif Nat.ble mi 258 then (bif Nat.beq mi 258 then 7 else 0) else (bif Nat.ble mi 259 then (bif Nat.beq mi 259 then 6 else 0) else (bif Nat.beq mi 260 then 6 else 0)))
def mw_l_4_1_1 (mi : Nat) : Nat := bif Nat.ble mi 262 then (bif Nat.ble mi 261 then (bif Nat.beq mi 261 then 6 else 0) else (bif Nat.beq mi 262 then 5 else 0)) else (bif Nat.ble mi 263 then (bif Nat.beq mi 263 then 2 else 0) else (bif Nat.ble mi 264 then (bif Nat.beq mi 264 then 3 else 0) else (bif Nat.beq mi 265 then 3 else 0)))
def mw_l_4_1 (mi : Nat) : Nat := bif Nat.ble mi 260 then (mw_l_4_1_0 mi) else (mw_l_4_1_1 mi)
def mw_l_4_2_0 (mi : Nat) : Nat := bif Nat.ble mi 267 then (bif Nat.ble mi 266 then (bif Nat.beq mi 266 then 2 else 0) else (bif Nat.beq mi 267 then 1 else 0)) else (bif Nat.ble mi 268 then (bif Nat.beq mi 268 then 3 else 0) else (bif Nat.ble mi 269 then (bif Nat.beq mi 269 then 3 else 0) else (bif Nat.beq mi 270 then 3 else 0)))
def mw_l_4_2_1 (mi : Nat) : Nat := bif Nat.ble mi 272 then (bif Nat.ble mi 271 then (bif Nat.beq mi 271 then 2 else 0) else (bif Nat.beq mi 272 then 3 else 0)) else (bif Nat.ble mi 273 then (bif Nat.beq mi 273 then 8 else 0) else (bif Nat.ble mi 274 then (bif Nat.beq mi 274 then 6 else 0) else (bif Nat.beq mi 275 then 4 else 0)))
def mw_l_4_2 (mi : Nat) : Nat := bif Nat.ble mi 270 then (mw_l_4_2_0 mi) else (mw_l_4_2_1 mi)
def mw_l_4_3_0 (mi : Nat) : Nat := bif Nat.ble mi 277 then (bif Nat.ble mi 276 then (bif Nat.beq mi 276 then 6 else 0) else (bif Nat.beq mi 277 then 2 else 0)) else (bif Nat.ble mi 278 then (bif Nat.beq mi 278 then 3 else 0) else (bif Nat.ble mi 279 then (bif Nat.beq mi 279 then 5 else 0) else (bif Nat.beq mi 280 then 5 else 0)))
def mw_l_4_3_1 (mi : Nat) : Nat := bif Nat.ble mi 282 then (bif Nat.ble mi 281 then (bif Nat.beq mi 281 then 2 else 0) else (bif Nat.beq mi 282 then 3 else 0)) else (bif Nat.ble mi 283 then (bif Nat.beq mi 283 then 2 else 0) else (bif Nat.ble mi 284 then (bif Nat.beq mi 284 then 2 else 0) else (bif Nat.beq mi 285 then 3 else 0)))
def mw_l_4_3 (mi : Nat) : Nat := bif Nat.ble mi 280 then (mw_l_4_3_0 mi) else (mw_l_4_3_1 mi)
def mw_l_4_4_0 (mi : Nat) : Nat := bif Nat.ble mi 287 then (bif Nat.ble mi 286 then (bif Nat.beq mi 286 then 3 else 0) else (bif Nat.beq mi 287 then 5 else 0)) else (bif Nat.ble mi 288 then (bif Nat.beq mi 288 then 9 else 0) else (bif Nat.ble mi 289 then (bif Nat.beq mi 289 then 7 else 0) else (bif Nat.beq mi 290 then 6 else 0)))
def mw_l_4_4_1 (mi : Nat) : Nat := bif Nat.ble mi 292 then (bif Nat.ble mi 291 then (bif Nat.beq mi 291 then 3 else 0) else (bif Nat.beq mi 292 then 3 else 0)) else (bif Nat.ble mi 293 then (bif Nat.beq mi 293 then 3 else 0) else (bif Nat.ble mi 294 then (bif Nat.beq mi 294 then 3 else 0) else (bif Nat.beq mi 295 then 3 else 0)))
def mw_l_4_4 (mi : Nat) : Nat := bif Nat.ble mi 290 then (mw_l_4_4_0 mi) else (mw_l_4_4_1 mi)
def mw_l_4_5_0 (mi : Nat) : Nat := bif Nat.ble mi 297 then (bif Nat.ble mi 296 then (bif Nat.beq mi 296 then 2 else 0) else (bif Nat.beq mi 297 then 1 else 0)) else (bif Nat.ble mi 298 then (bif Nat.beq mi 298 then 2 else 0) else (bif Nat.ble mi 299 then (bif Nat.beq mi 299 then 5 else 0) else (bif Nat.beq mi 300 then 3 else 0)))
def mw_l_4_5_1 (mi : Nat) : Nat := bif Nat.ble mi 303 then (bif Nat.ble mi 301 then (bif Nat.beq mi 301 then 2 else 0) else (bif Nat.ble mi 302 then (bif Nat.beq mi 302 then 4 else 0) else (bif Nat.beq mi 303 then 3 else 0))) else (bif Nat.ble mi 304 then (bif Nat.beq mi 304 then 4 else 0) else (bif Nat.ble mi 305 then (bif Nat.beq mi 305 then 2 else 0) else (bif Nat.beq mi 306 then 4 else 0)))
def mw_l_4_5 (mi : Nat) : Nat := bif Nat.ble mi 300 then (mw_l_4_5_0 mi) else (mw_l_4_5_1 mi)
def mw_l_4 (mi : Nat) : Nat := bif Nat.ble mi 275 then (bif Nat.ble mi 255 then (mw_l_4_0 mi) else (bif Nat.ble mi 265 then (mw_l_4_1 mi) else (mw_l_4_2 mi))) else (bif Nat.ble mi 285 then (mw_l_4_3 mi) else (bif Nat.ble mi 295 then (mw_l_4_4 mi) else (mw_l_4_5 mi)))
def mw_l_5_0_0 (mi : Nat) : Nat := bif Nat.ble mi 308 then (bif Nat.ble mi 307 then (bif Nat.beq mi 307 then 3 else 0) else (bif Nat.beq mi 308 then 4 else 0)) else (bif Nat.ble mi 309 then (bif Nat.beq mi 309 then 5 else 0) else (bif Nat.ble mi 310 then (bif Nat.beq mi 310 then 5 else 0) else (bif Nat.beq mi 311 then 11 else 0)))
def mw_l_5_0_1 (mi : Nat) : Nat := bif Nat.ble mi 313 then (bif Nat.ble mi 312 then (bif Nat.beq mi 312 then 7 else 0) else (bif Nat.beq mi 313 then 3 else 0)) else (bif Nat.ble mi 314 then (bif Nat.beq mi 314 then 2 else 0) else (bif Nat.ble mi 315 then (bif Nat.beq mi 315 then 3 else 0) else (bif Nat.beq mi 316 then 4 else 0)))
def mw_l_5_0 (mi : Nat) : Nat := bif Nat.ble mi 311 then (mw_l_5_0_0 mi) else (mw_l_5_0_1 mi)
def mw_l_5_1_0 (mi : Nat) : Nat := bif Nat.ble mi 318 then (bif Nat.ble mi 317 then (bif Nat.beq mi 317 then 9 else 0) else (bif Nat.beq mi 318 then 4 else 0)) else (bif Nat.ble mi 319 then (bif Nat.beq mi 319 then 3 else 0) else (bif Nat.ble mi 320 then (bif Nat.beq mi 320 then 2 else 0) else (bif Nat.beq mi 321 then 3 else 0)))
def mw_l_5_1_1 (mi : Nat) : Nat := bif Nat.ble mi 323 then (bif Nat.ble mi 322 then (bif Nat.beq mi 322 then 3 else 0) else (bif Nat.beq mi 323 then 4 else 0)) else (bif Nat.ble mi 324 then (bif Nat.beq mi 324 then 4 else 0) else (bif Nat.ble mi 325 then (bif Nat.beq mi 325 then 4 else 0) else (bif Nat.beq mi 326 then 4 else 0)))
def mw_l_5_1 (mi : Nat) : Nat := bif Nat.ble mi 321 then (mw_l_5_1_0 mi) else (mw_l_5_1_1 mi)
def mw_l_5_2_0 (mi : Nat) : Nat := bif Nat.ble mi 328 then (bif Nat.ble mi 327 then (bif Nat.beq mi 327 then 2 else 0) else (bif Nat.beq mi 328 then 2 else 0)) else (bif Nat.ble mi 329 then (bif Nat.beq mi 329 then 3 else 0) else (bif Nat.ble mi 330 then (bif Nat.beq mi 330 then 2 else 0) else (bif Nat.beq mi 331 then 3 else 0)))
def mw_l_5_2_1 (mi : Nat) : Nat := bif Nat.ble mi 334 then (bif Nat.ble mi 332 then (bif Nat.beq mi 332 then 5 else 0) else (bif Nat.ble mi 333 then (bif Nat.beq mi 333 then 5 else 0) else (bif Nat.beq mi 334 then 3 else 0))) else (bif Nat.ble mi 335 then (bif Nat.beq mi 335 then 7 else 0) else (bif Nat.ble mi 336 then (bif Nat.beq mi 336 then 4 else 0) else (bif Nat.beq mi 337 then 7 else 0)))
def mw_l_5_2 (mi : Nat) : Nat := bif Nat.ble mi 331 then (mw_l_5_2_0 mi) else (mw_l_5_2_1 mi)
def mw_l_5_3_0 (mi : Nat) : Nat := bif Nat.ble mi 339 then (bif Nat.ble mi 338 then (bif Nat.beq mi 338 then 2 else 0) else (bif Nat.beq mi 339 then 2 else 0)) else (bif Nat.ble mi 340 then (bif Nat.beq mi 340 then 2 else 0) else (bif Nat.ble mi 341 then (bif Nat.beq mi 341 then 5 else 0) else (bif Nat.beq mi 342 then 6 else 0)))
def mw_l_5_3_1 (mi : Nat) : Nat := bif Nat.ble mi 344 then (bif Nat.ble mi 343 then (bif Nat.beq mi 343 then 5 else 0) else (bif Nat.beq mi 344 then 5 else 0)) else (bif Nat.ble mi 345 then (bif Nat.beq mi 345 then 5 else 0) else (bif Nat.ble mi 346 then (bif Nat.beq mi 346 then 5 else 0) else (bif Nat.beq mi 347 then 3 else 0)))
def mw_l_5_3 (mi : Nat) : Nat := bif Nat.ble mi 342 then (mw_l_5_3_0 mi) else (mw_l_5_3_1 mi)
def mw_l_5_4_0 (mi : Nat) : Nat := bif Nat.ble mi 349 then (bif Nat.ble mi 348 then (bif Nat.beq mi 348 then 4 else 0) else (bif Nat.beq mi 349 then 1 else 0)) else (bif Nat.ble mi 350 then (bif Nat.beq mi 350 then 3 else 0) else (bif Nat.ble mi 351 then (bif Nat.beq mi 351 then 2 else 0) else (bif Nat.beq mi 352 then 4 else 0)))
def mw_l_5_4_1 (mi : Nat) : Nat := bif Nat.ble mi 354 then (bif Nat.ble mi 353 then (bif Nat.beq mi 353 then 4 else 0) else (bif Nat.beq mi 354 then 5 else 0)) else (bif Nat.ble mi 355 then (bif Nat.beq mi 355 then 1 else 0) else (bif Nat.ble mi 356 then (bif Nat.beq mi 356 then 3 else 0) else (bif Nat.beq mi 357 then 3 else 0)))
def mw_l_5_4 (mi : Nat) : Nat := bif Nat.ble mi 352 then (mw_l_5_4_0 mi) else (mw_l_5_4_1 mi)
def mw_l_5_5_0 (mi : Nat) : Nat := bif Nat.ble mi 359 then (bif Nat.ble mi 358 then (bif Nat.beq mi 358 then 3 else 0) else (bif Nat.beq mi 359 then 10 else 0)) else (bif Nat.ble mi 360 then (bif Nat.beq mi 360 then 4 else 0) else (bif Nat.ble mi 361 then (bif Nat.beq mi 361 then 4 else 0) else (bif Nat.beq mi 362 then 6 else 0)))
def mw_l_5_5_1 (mi : Nat) : Nat := bif Nat.ble mi 365 then (bif Nat.ble mi 363 then (bif Nat.beq mi 363 then 5 else 0) else (bif Nat.ble mi 364 then (bif Nat.beq mi 364 then 2 else 0) else (bif Nat.beq mi 365 then 2 else 0))) else (bif Nat.ble mi 366 then (bif Nat.beq mi 366 then 2 else 0) else (bif Nat.ble mi 367 then (bif Nat.beq mi 367 then 2 else 0) else (bif Nat.beq mi 368 then 4 else 0)))
def mw_l_5_5 (mi : Nat) : Nat := bif Nat.ble mi 362 then (mw_l_5_5_0 mi) else (mw_l_5_5_1 mi)
def mw_l_5 (mi : Nat) : Nat := bif Nat.ble mi 337 then (bif Nat.ble mi 316 then (mw_l_5_0 mi) else (bif Nat.ble mi 326 then (mw_l_5_1 mi) else (mw_l_5_2 mi))) else (bif Nat.ble mi 347 then (mw_l_5_3 mi) else (bif Nat.ble mi 357 then (mw_l_5_4 mi) else (mw_l_5_5 mi)))
def mw_l (mi : Nat) : Nat := bif Nat.ble mi 183 then (bif Nat.ble mi 60 then (mw_l_0 mi) else (bif Nat.ble mi 122 then (mw_l_1 mi) else (mw_l_2 mi))) else (bif Nat.ble mi 245 then (mw_l_3 mi) else (bif Nat.ble mi 306 then (mw_l_4 mi) else (mw_l_5 mi)))
def mw_r_0_0_0 (mi : Nat) : Option FieldType := bif Nat.ble mi 1 then (bif Nat.ble mi 0 then (bif Nat.beq mi 0 then (some .boolean) else none) else (bif Nat.beq mi 1 then (some .boolean) else none)) else (bif Nat.ble mi 2 then (bif Nat.beq mi 2 then (some .boolean) else none) else (bif Nat.ble mi 3 then (bif Nat.beq mi 3 then (some .boolean) else none) else (bif Nat.beq mi 4 then (some .int) else none)))
def mw_r_0_0_1 (mi : Nat) : Option FieldType := bif Nat.ble mi 6 then (bif Nat.ble mi 5 then (bif Nat.beq mi 5 then none else none) else (bif Nat.beq mi 6 then none else none)) else (bif Nat.ble mi 7 then (bif Nat.beq mi 7 then none else none) else (bif Nat.ble mi 8 then (bif Nat.beq mi 8 then (some (.object "LinkedCores$Core")) else none) else (bif Nat.beq mi 9 then (some .int) else none)))
def mw_r_0_0 (mi : Nat) : Option FieldType := bif Nat.ble mi 4 then (mw_r_0_0_0 mi) else (mw_r_0_0_1 mi)
def mw_r_0_1_0 (mi : Nat) : Option FieldType := bif Nat.ble mi 11 then (bif Nat.ble mi 10 then (bif Nat.beq mi 10 then none else none) else (bif Nat.beq mi 11 then none else none)) else (bif Nat.ble mi 12 then (bif Nat.beq mi 12 then (some .int) else none) else (bif Nat.ble mi 13 then (bif Nat.beq mi 13 then (some .boolean) else none) else (bif Nat.beq mi 14 then (some .int) else none)))
def mw_r_0_1_1 (mi : Nat) : Option FieldType := bif Nat.ble mi 16 then (bif Nat.ble mi 15 then (bif Nat.beq mi 15 then (some .int) else none) else (bif Nat.beq mi 16 then (some .int) else none)) else (bif Nat.ble mi 17 then (bif Nat.beq mi 17 then (some .int) else none) else (bif Nat.ble mi 18 then (bif Nat.beq mi 18 then (some .int) else none) else (bif Nat.beq mi 19 then none else none)))
def mw_r_0_1 (mi : Nat) : Option FieldType := bif Nat.ble mi 14 then (mw_r_0_1_0 mi) else (mw_r_0_1_1 mi)
def mw_r_0_2_0 (mi : Nat) : Option FieldType := bif Nat.ble mi 21 then (bif Nat.ble mi 20 then (bif Nat.beq mi 20 then (some .int) else none) else (bif Nat.beq mi 21 then (some .int) else none)) else (bif Nat.ble mi 22 then (bif Nat.beq mi 22 then (some .boolean) else none) else (bif Nat.ble mi 23 then (bif Nat.beq mi 23 then (some .int) else none) else (bif Nat.beq mi 24 then (some .int) else none)))
def mw_r_0_2_1 (mi : Nat) : Option FieldType := bif Nat.ble mi 26 then (bif Nat.ble mi 25 then (bif Nat.beq mi 25 then (some .int) else none) else (bif Nat.beq mi 26 then (some .int) else none)) else (bif Nat.ble mi 27 then (bif Nat.beq mi 27 then (some .int) else none) else (bif Nat.ble mi 28 then (bif Nat.beq mi 28 then (some .int) else none) else (bif Nat.beq mi 29 then (some .int) else none)))
def mw_r_0_2 (mi : Nat) : Option FieldType := bif Nat.ble mi 24 then (mw_r_0_2_0 mi) else (mw_r_0_2_1 mi)
def mw_r_0_3_0 (mi : Nat) : Option FieldType := bif Nat.ble mi 31 then (bif Nat.ble mi 30 then (bif Nat.beq mi 30 then (some .int) else none) else (bif Nat.beq mi 31 then (some .int) else none)) else (bif Nat.ble mi 32 then (bif Nat.beq mi 32 then (some .int) else none) else (bif Nat.ble mi 33 then (bif Nat.beq mi 33 then (some .int) else none) else (bif Nat.beq mi 34 then none else none)))
def mw_r_0_3_1 (mi : Nat) : Option FieldType := bif Nat.ble mi 36 then (bif Nat.ble mi 35 then (bif Nat.beq mi 35 then (some .int) else none) else (bif Nat.beq mi 36 then (some .boolean) else none)) else (bif Nat.ble mi 37 then (bif Nat.beq mi 37 then none else none) else (bif Nat.ble mi 38 then (bif Nat.beq mi 38 then none else none) else (bif Nat.beq mi 39 then none else none)))
def mw_r_0_3 (mi : Nat) : Option FieldType := bif Nat.ble mi 34 then (mw_r_0_3_0 mi) else (mw_r_0_3_1 mi)
def mw_r_0_4_0 (mi : Nat) : Option FieldType := bif Nat.ble mi 41 then (bif Nat.ble mi 40 then (bif Nat.beq mi 40 then none else none) else (bif Nat.beq mi 41 then none else none)) else (bif Nat.ble mi 42 then (bif Nat.beq mi 42 then none else none) else (bif Nat.ble mi 43 then (bif Nat.beq mi 43 then (some .int) else none) else (bif Nat.beq mi 44 then none else none)))
def mw_r_0_4_1 (mi : Nat) : Option FieldType := bif Nat.ble mi 46 then (bif Nat.ble mi 45 then (bif Nat.beq mi 45 then (some .boolean) else none) else (bif Nat.beq mi 46 then none else none)) else (bif Nat.ble mi 47 then (bif Nat.beq mi 47 then (some .int) else none) else (bif Nat.ble mi 48 then (bif Nat.beq mi 48 then (some .int) else none) else (bif Nat.beq mi 49 then none else none)))
def mw_r_0_4 (mi : Nat) : Option FieldType := bif Nat.ble mi 44 then (mw_r_0_4_0 mi) else (mw_r_0_4_1 mi)
def mw_r_0_5_0 (mi : Nat) : Option FieldType := bif Nat.ble mi 51 then (bif Nat.ble mi 50 then (bif Nat.beq mi 50 then (some .boolean) else none) else (bif Nat.beq mi 51 then (some .int) else none)) else (bif Nat.ble mi 52 then (bif Nat.beq mi 52 then (some .int) else none) else (bif Nat.ble mi 53 then (bif Nat.beq mi 53 then (some .boolean) else none) else (bif Nat.beq mi 54 then (some .int) else none)))
def mw_r_0_5_1 (mi : Nat) : Option FieldType := bif Nat.ble mi 57 then (bif Nat.ble mi 55 then (bif Nat.beq mi 55 then none else none) else (bif Nat.ble mi 56 then (bif Nat.beq mi 56 then (some .boolean) else none) else (bif Nat.beq mi 57 then (some .boolean) else none))) else (bif Nat.ble mi 58 then (bif Nat.beq mi 58 then (some .boolean) else none) else (bif Nat.ble mi 59 then (bif Nat.beq mi 59 then (some .int) else none) else (bif Nat.beq mi 60 then (some .int) else none)))
def mw_r_0_5 (mi : Nat) : Option FieldType := bif Nat.ble mi 54 then (mw_r_0_5_0 mi) else (mw_r_0_5_1 mi)
def mw_r_0 (mi : Nat) : Option FieldType := bif Nat.ble mi 29 then (bif Nat.ble mi 9 then (mw_r_0_0 mi) else (bif Nat.ble mi 19 then (mw_r_0_1 mi) else (mw_r_0_2 mi))) else (bif Nat.ble mi 39 then (mw_r_0_3 mi) else (bif Nat.ble mi 49 then (mw_r_0_4 mi) else (mw_r_0_5 mi)))
def mw_r_1_0_0 (mi : Nat) : Option FieldType := bif Nat.ble mi 62 then (bif Nat.ble mi 61 then (bif Nat.beq mi 61 then (some (.object "LinkedCores$Sort")) else none) else (bif Nat.beq mi 62 then none else none)) else (bif Nat.ble mi 63 then (bif Nat.beq mi 63 then none else none) else (bif Nat.ble mi 64 then (bif Nat.beq mi 64 then none else none) else (bif Nat.beq mi 65 then (some .int) else none)))
def mw_r_1_0_1 (mi : Nat) : Option FieldType := bif Nat.ble mi 67 then (bif Nat.ble mi 66 then (bif Nat.beq mi 66 then (some .boolean) else none) else (bif Nat.beq mi 67 then (some .int) else none)) else (bif Nat.ble mi 68 then (bif Nat.beq mi 68 then (some .int) else none) else (bif Nat.ble mi 69 then (bif Nat.beq mi 69 then (some .int) else none) else (bif Nat.beq mi 70 then (some .int) else none)))
def mw_r_1_0 (mi : Nat) : Option FieldType := bif Nat.ble mi 65 then (mw_r_1_0_0 mi) else (mw_r_1_0_1 mi)
def mw_r_1_1_0 (mi : Nat) : Option FieldType := bif Nat.ble mi 72 then (bif Nat.ble mi 71 then (bif Nat.beq mi 71 then (some .int) else none) else (bif Nat.beq mi 72 then (some .int) else none)) else (bif Nat.ble mi 73 then (bif Nat.beq mi 73 then (some .int) else none) else (bif Nat.ble mi 74 then (bif Nat.beq mi 74 then (some .int) else none) else (bif Nat.beq mi 75 then (some .int) else none)))
def mw_r_1_1_1 (mi : Nat) : Option FieldType := bif Nat.ble mi 77 then (bif Nat.ble mi 76 then (bif Nat.beq mi 76 then none else none) else (bif Nat.beq mi 77 then (some .int) else none)) else (bif Nat.ble mi 78 then (bif Nat.beq mi 78 then (some .int) else none) else (bif Nat.ble mi 79 then (bif Nat.beq mi 79 then (some .int) else none) else (bif Nat.beq mi 80 then (some .int) else none)))
def mw_r_1_1 (mi : Nat) : Option FieldType := bif Nat.ble mi 75 then (mw_r_1_1_0 mi) else (mw_r_1_1_1 mi)
def mw_r_1_2_0 (mi : Nat) : Option FieldType := bif Nat.ble mi 82 then (bif Nat.ble mi 81 then (bif Nat.beq mi 81 then (some .int) else none) else (bif Nat.beq mi 82 then (some .int) else none)) else (bif Nat.ble mi 83 then (bif Nat.beq mi 83 then (some .int) else none) else (bif Nat.ble mi 84 then (bif Nat.beq mi 84 then none else none) else (bif Nat.beq mi 85 then none else none)))
def mw_r_1_2_1 (mi : Nat) : Option FieldType := bif Nat.ble mi 88 then (bif Nat.ble mi 86 then (bif Nat.beq mi 86 then none else none) else (bif Nat.ble mi 87 then (bif Nat.beq mi 87 then none else none) else (bif Nat.beq mi 88 then none else none))) else (bif Nat.ble mi 89 then (bif Nat.beq mi 89 then none else none) else (bif Nat.ble mi 90 then (bif Nat.beq mi 90 then (some .long) else none) else (bif Nat.beq mi 91 then none else none)))
def mw_r_1_2 (mi : Nat) : Option FieldType := bif Nat.ble mi 85 then (mw_r_1_2_0 mi) else (mw_r_1_2_1 mi)
def mw_r_1_3_0 (mi : Nat) : Option FieldType := bif Nat.ble mi 93 then (bif Nat.ble mi 92 then (bif Nat.beq mi 92 then none else none) else (bif Nat.beq mi 93 then (some .int) else none)) else (bif Nat.ble mi 94 then (bif Nat.beq mi 94 then none else none) else (bif Nat.ble mi 95 then (bif Nat.beq mi 95 then none else none) else (bif Nat.beq mi 96 then none else none)))
def mw_r_1_3_1 (mi : Nat) : Option FieldType := bif Nat.ble mi 98 then (bif Nat.ble mi 97 then (bif Nat.beq mi 97 then none else none) else (bif Nat.beq mi 98 then none else none)) else (bif Nat.ble mi 99 then (bif Nat.beq mi 99 then none else none) else (bif Nat.ble mi 100 then (bif Nat.beq mi 100 then (some .boolean) else none) else (bif Nat.beq mi 101 then (some .boolean) else none)))
def mw_r_1_3 (mi : Nat) : Option FieldType := bif Nat.ble mi 96 then (mw_r_1_3_0 mi) else (mw_r_1_3_1 mi)
def mw_r_1_4_0 (mi : Nat) : Option FieldType := bif Nat.ble mi 103 then (bif Nat.ble mi 102 then (bif Nat.beq mi 102 then (some .boolean) else none) else (bif Nat.beq mi 103 then (some .int) else none)) else (bif Nat.ble mi 104 then (bif Nat.beq mi 104 then (some .int) else none) else (bif Nat.ble mi 105 then (bif Nat.beq mi 105 then (some .int) else none) else (bif Nat.beq mi 106 then none else none)))
def mw_r_1_4_1 (mi : Nat) : Option FieldType := bif Nat.ble mi 108 then (bif Nat.ble mi 107 then (bif Nat.beq mi 107 then none else none) else (bif Nat.beq mi 108 then none else none)) else (bif Nat.ble mi 109 then (bif Nat.beq mi 109 then (some .boolean) else none) else (bif Nat.ble mi 110 then (bif Nat.beq mi 110 then none else none) else (bif Nat.beq mi 111 then none else none)))
def mw_r_1_4 (mi : Nat) : Option FieldType := bif Nat.ble mi 106 then (mw_r_1_4_0 mi) else (mw_r_1_4_1 mi)
def mw_r_1_5_0 (mi : Nat) : Option FieldType := bif Nat.ble mi 113 then (bif Nat.ble mi 112 then (bif Nat.beq mi 112 then (some .boolean) else none) else (bif Nat.beq mi 113 then (some .int) else none)) else (bif Nat.ble mi 114 then (bif Nat.beq mi 114 then none else none) else (bif Nat.ble mi 115 then (bif Nat.beq mi 115 then none else none) else (bif Nat.beq mi 116 then none else none)))
def mw_r_1_5_1 (mi : Nat) : Option FieldType := bif Nat.ble mi 119 then (bif Nat.ble mi 117 then (bif Nat.beq mi 117 then (some .boolean) else none) else (bif Nat.ble mi 118 then (bif Nat.beq mi 118 then (some .boolean) else none) else (bif Nat.beq mi 119 then none else none))) else (bif Nat.ble mi 120 then (bif Nat.beq mi 120 then none else none) else (bif Nat.ble mi 121 then (bif Nat.beq mi 121 then none else none) else (bif Nat.beq mi 122 then none else none)))
def mw_r_1_5 (mi : Nat) : Option FieldType := bif Nat.ble mi 116 then (mw_r_1_5_0 mi) else (mw_r_1_5_1 mi)
def mw_r_1 (mi : Nat) : Option FieldType := bif Nat.ble mi 91 then (bif Nat.ble mi 70 then (mw_r_1_0 mi) else (bif Nat.ble mi 80 then (mw_r_1_1 mi) else (mw_r_1_2 mi))) else (bif Nat.ble mi 101 then (mw_r_1_3 mi) else (bif Nat.ble mi 111 then (mw_r_1_4 mi) else (mw_r_1_5 mi)))
def mw_r_2_0_0 (mi : Nat) : Option FieldType := bif Nat.ble mi 124 then (bif Nat.ble mi 123 then (bif Nat.beq mi 123 then none else none) else (bif Nat.beq mi 124 then none else none)) else (bif Nat.ble mi 125 then (bif Nat.beq mi 125 then (some .boolean) else none) else (bif Nat.ble mi 126 then (bif Nat.beq mi 126 then (some .int) else none) else (bif Nat.beq mi 127 then none else none)))
def mw_r_2_0_1 (mi : Nat) : Option FieldType := bif Nat.ble mi 129 then (bif Nat.ble mi 128 then (bif Nat.beq mi 128 then none else none) else (bif Nat.beq mi 129 then none else none)) else (bif Nat.ble mi 130 then (bif Nat.beq mi 130 then (some .int) else none) else (bif Nat.ble mi 131 then (bif Nat.beq mi 131 then none else none) else (bif Nat.beq mi 132 then none else none)))
def mw_r_2_0 (mi : Nat) : Option FieldType := bif Nat.ble mi 127 then (mw_r_2_0_0 mi) else (mw_r_2_0_1 mi)
def mw_r_2_1_0 (mi : Nat) : Option FieldType := bif Nat.ble mi 134 then (bif Nat.ble mi 133 then (bif Nat.beq mi 133 then (some .int) else none) else (bif Nat.beq mi 134 then (some .int) else none)) else (bif Nat.ble mi 135 then (bif Nat.beq mi 135 then none else none) else (bif Nat.ble mi 136 then (bif Nat.beq mi 136 then none else none) else (bif Nat.beq mi 137 then none else none)))
def mw_r_2_1_1 (mi : Nat) : Option FieldType := bif Nat.ble mi 139 then (bif Nat.ble mi 138 then (bif Nat.beq mi 138 then none else none) else (bif Nat.beq mi 139 then none else none)) else (bif Nat.ble mi 140 then (bif Nat.beq mi 140 then none else none) else (bif Nat.ble mi 141 then (bif Nat.beq mi 141 then none else none) else (bif Nat.beq mi 142 then none else none)))
def mw_r_2_1 (mi : Nat) : Option FieldType := bif Nat.ble mi 137 then (mw_r_2_1_0 mi) else (mw_r_2_1_1 mi)
def mw_r_2_2_0 (mi : Nat) : Option FieldType := bif Nat.ble mi 144 then (bif Nat.ble mi 143 then (bif Nat.beq mi 143 then none else none) else (bif Nat.beq mi 144 then none else none)) else (bif Nat.ble mi 145 then (bif Nat.beq mi 145 then none else none) else (bif Nat.ble mi 146 then (bif Nat.beq mi 146 then none else none) else (bif Nat.beq mi 147 then none else none)))
def mw_r_2_2_1 (mi : Nat) : Option FieldType := bif Nat.ble mi 149 then (bif Nat.ble mi 148 then (bif Nat.beq mi 148 then none else none) else (bif Nat.beq mi 149 then (some .int) else none)) else (bif Nat.ble mi 150 then (bif Nat.beq mi 150 then (some .int) else none) else (bif Nat.ble mi 151 then (bif Nat.beq mi 151 then none else none) else (bif Nat.beq mi 152 then none else none)))
def mw_r_2_2 (mi : Nat) : Option FieldType := bif Nat.ble mi 147 then (mw_r_2_2_0 mi) else (mw_r_2_2_1 mi)
def mw_r_2_3_0 (mi : Nat) : Option FieldType := bif Nat.ble mi 154 then (bif Nat.ble mi 153 then (bif Nat.beq mi 153 then none else none) else (bif Nat.beq mi 154 then none else none)) else (bif Nat.ble mi 155 then (bif Nat.beq mi 155 then none else none) else (bif Nat.ble mi 156 then (bif Nat.beq mi 156 then (some .int) else none) else (bif Nat.beq mi 157 then (some .boolean) else none)))
def mw_r_2_3_1 (mi : Nat) : Option FieldType := bif Nat.ble mi 159 then (bif Nat.ble mi 158 then (bif Nat.beq mi 158 then none else none) else (bif Nat.beq mi 159 then (some .int) else none)) else (bif Nat.ble mi 160 then (bif Nat.beq mi 160 then none else none) else (bif Nat.ble mi 161 then (bif Nat.beq mi 161 then none else none) else (bif Nat.beq mi 162 then (some .boolean) else none)))
def mw_r_2_3 (mi : Nat) : Option FieldType := bif Nat.ble mi 157 then (mw_r_2_3_0 mi) else (mw_r_2_3_1 mi)
def mw_r_2_4_0 (mi : Nat) : Option FieldType := bif Nat.ble mi 164 then (bif Nat.ble mi 163 then (bif Nat.beq mi 163 then (some .int) else none) else (bif Nat.beq mi 164 then none else none)) else (bif Nat.ble mi 165 then (bif Nat.beq mi 165 then (some .boolean) else none) else (bif Nat.ble mi 166 then (bif Nat.beq mi 166 then (some .boolean) else none) else (bif Nat.beq mi 167 then none else none)))
def mw_r_2_4_1 (mi : Nat) : Option FieldType := bif Nat.ble mi 169 then (bif Nat.ble mi 168 then (bif Nat.beq mi 168 then none else none) else (bif Nat.beq mi 169 then none else none)) else (bif Nat.ble mi 170 then (bif Nat.beq mi 170 then (some .int) else none) else (bif Nat.ble mi 171 then (bif Nat.beq mi 171 then none else none) else (bif Nat.beq mi 172 then none else none)))
def mw_r_2_4 (mi : Nat) : Option FieldType := bif Nat.ble mi 167 then (mw_r_2_4_0 mi) else (mw_r_2_4_1 mi)
def mw_r_2_5_0 (mi : Nat) : Option FieldType := bif Nat.ble mi 174 then (bif Nat.ble mi 173 then (bif Nat.beq mi 173 then none else none) else (bif Nat.beq mi 174 then none else none)) else (bif Nat.ble mi 175 then (bif Nat.beq mi 175 then (some .int) else none) else (bif Nat.ble mi 176 then (bif Nat.beq mi 176 then none else none) else (bif Nat.beq mi 177 then none else none)))
def mw_r_2_5_1 (mi : Nat) : Option FieldType := bif Nat.ble mi 180 then (bif Nat.ble mi 178 then (bif Nat.beq mi 178 then none else none) else (bif Nat.ble mi 179 then (bif Nat.beq mi 179 then none else none) else (bif Nat.beq mi 180 then none else none))) else (bif Nat.ble mi 181 then (bif Nat.beq mi 181 then none else none) else (bif Nat.ble mi 182 then (bif Nat.beq mi 182 then none else none) else (bif Nat.beq mi 183 then none else none)))
def mw_r_2_5 (mi : Nat) : Option FieldType := bif Nat.ble mi 177 then (mw_r_2_5_0 mi) else (mw_r_2_5_1 mi)
def mw_r_2 (mi : Nat) : Option FieldType := bif Nat.ble mi 152 then (bif Nat.ble mi 132 then (mw_r_2_0 mi) else (bif Nat.ble mi 142 then (mw_r_2_1 mi) else (mw_r_2_2 mi))) else (bif Nat.ble mi 162 then (mw_r_2_3 mi) else (bif Nat.ble mi 172 then (mw_r_2_4 mi) else (mw_r_2_5 mi)))
def mw_r_3_0_0 (mi : Nat) : Option FieldType := bif Nat.ble mi 185 then (bif Nat.ble mi 184 then (bif Nat.beq mi 184 then none else none) else (bif Nat.beq mi 185 then none else none)) else (bif Nat.ble mi 186 then (bif Nat.beq mi 186 then none else none) else (bif Nat.ble mi 187 then (bif Nat.beq mi 187 then none else none) else (bif Nat.beq mi 188 then (some .boolean) else none)))
def mw_r_3_0_1 (mi : Nat) : Option FieldType := bif Nat.ble mi 190 then (bif Nat.ble mi 189 then (bif Nat.beq mi 189 then none else none) else (bif Nat.beq mi 190 then none else none)) else (bif Nat.ble mi 191 then (bif Nat.beq mi 191 then (some .boolean) else none) else (bif Nat.ble mi 192 then (bif Nat.beq mi 192 then none else none) else (bif Nat.beq mi 193 then (some .int) else none)))
def mw_r_3_0 (mi : Nat) : Option FieldType := bif Nat.ble mi 188 then (mw_r_3_0_0 mi) else (mw_r_3_0_1 mi)
def mw_r_3_1_0 (mi : Nat) : Option FieldType := bif Nat.ble mi 195 then (bif Nat.ble mi 194 then (bif Nat.beq mi 194 then none else none) else (bif Nat.beq mi 195 then none else none)) else (bif Nat.ble mi 196 then (bif Nat.beq mi 196 then (some .int) else none) else (bif Nat.ble mi 197 then (bif Nat.beq mi 197 then (some .int) else none) else (bif Nat.beq mi 198 then (some .boolean) else none)))
def mw_r_3_1_1 (mi : Nat) : Option FieldType := bif Nat.ble mi 200 then (bif Nat.ble mi 199 then (bif Nat.beq mi 199 then (some .boolean) else none) else (bif Nat.beq mi 200 then (some .boolean) else none)) else (bif Nat.ble mi 201 then (bif Nat.beq mi 201 then (some .int) else none) else (bif Nat.ble mi 202 then (bif Nat.beq mi 202 then none else none) else (bif Nat.beq mi 203 then none else none)))
def mw_r_3_1 (mi : Nat) : Option FieldType := bif Nat.ble mi 198 then (mw_r_3_1_0 mi) else (mw_r_3_1_1 mi)
def mw_r_3_2_0 (mi : Nat) : Option FieldType := bif Nat.ble mi 205 then (bif Nat.ble mi 204 then (bif Nat.beq mi 204 then (some .boolean) else none) else (bif Nat.beq mi 205 then none else none)) else (bif Nat.ble mi 206 then (bif Nat.beq mi 206 then (some .int) else none) else (bif Nat.ble mi 207 then (bif Nat.beq mi 207 then (some .boolean) else none) else (bif Nat.beq mi 208 then (some .boolean) else none)))
def mw_r_3_2_1 (mi : Nat) : Option FieldType := bif Nat.ble mi 211 then (bif Nat.ble mi 209 then (bif Nat.beq mi 209 then (some .boolean) else none) else (bif Nat.ble mi 210 then (bif Nat.beq mi 210 then (some .long) else none) else (bif Nat.beq mi 211 then none else none))) else (bif Nat.ble mi 212 then (bif Nat.beq mi 212 then none else none) else (bif Nat.ble mi 213 then (bif Nat.beq mi 213 then none else none) else (bif Nat.beq mi 214 then (some .long) else none)))
def mw_r_3_2 (mi : Nat) : Option FieldType := bif Nat.ble mi 208 then (mw_r_3_2_0 mi) else (mw_r_3_2_1 mi)
def mw_r_3_3_0 (mi : Nat) : Option FieldType := bif Nat.ble mi 216 then (bif Nat.ble mi 215 then (bif Nat.beq mi 215 then none else none) else (bif Nat.beq mi 216 then (some .int) else none)) else (bif Nat.ble mi 217 then (bif Nat.beq mi 217 then none else none) else (bif Nat.ble mi 218 then (bif Nat.beq mi 218 then (some .int) else none) else (bif Nat.beq mi 219 then none else none)))
def mw_r_3_3_1 (mi : Nat) : Option FieldType := bif Nat.ble mi 221 then (bif Nat.ble mi 220 then (bif Nat.beq mi 220 then (some .boolean) else none) else (bif Nat.beq mi 221 then (some .boolean) else none)) else (bif Nat.ble mi 222 then (bif Nat.beq mi 222 then none else none) else (bif Nat.ble mi 223 then (bif Nat.beq mi 223 then none else none) else (bif Nat.beq mi 224 then none else none)))
def mw_r_3_3 (mi : Nat) : Option FieldType := bif Nat.ble mi 219 then (mw_r_3_3_0 mi) else (mw_r_3_3_1 mi)
def mw_r_3_4_0 (mi : Nat) : Option FieldType := bif Nat.ble mi 226 then (bif Nat.ble mi 225 then (bif Nat.beq mi 225 then (some .boolean) else none) else (bif Nat.beq mi 226 then (some .boolean) else none)) else (bif Nat.ble mi 227 then (bif Nat.beq mi 227 then (some .int) else none) else (bif Nat.ble mi 228 then (bif Nat.beq mi 228 then none else none) else (bif Nat.beq mi 229 then (some .int) else none)))
def mw_r_3_4_1 (mi : Nat) : Option FieldType := bif Nat.ble mi 231 then (bif Nat.ble mi 230 then (bif Nat.beq mi 230 then (some .int) else none) else (bif Nat.beq mi 231 then (some .int) else none)) else (bif Nat.ble mi 232 then (bif Nat.beq mi 232 then (some .int) else none) else (bif Nat.ble mi 233 then (bif Nat.beq mi 233 then (some .boolean) else none) else (bif Nat.beq mi 234 then (some .boolean) else none)))
def mw_r_3_4 (mi : Nat) : Option FieldType := bif Nat.ble mi 229 then (mw_r_3_4_0 mi) else (mw_r_3_4_1 mi)
def mw_r_3_5_0 (mi : Nat) : Option FieldType := bif Nat.ble mi 236 then (bif Nat.ble mi 235 then (bif Nat.beq mi 235 then (some .boolean) else none) else (bif Nat.beq mi 236 then (some .boolean) else none)) else (bif Nat.ble mi 237 then (bif Nat.beq mi 237 then (some .int) else none) else (bif Nat.ble mi 238 then (bif Nat.beq mi 238 then (some .int) else none) else (bif Nat.beq mi 239 then (some .int) else none)))
def mw_r_3_5_1 (mi : Nat) : Option FieldType := bif Nat.ble mi 242 then (bif Nat.ble mi 240 then (bif Nat.beq mi 240 then (some .int) else none) else (bif Nat.ble mi 241 then (bif Nat.beq mi 241 then (some .int) else none) else (bif Nat.beq mi 242 then (some .int) else none))) else (bif Nat.ble mi 243 then (bif Nat.beq mi 243 then (some .int) else none) else (bif Nat.ble mi 244 then (bif Nat.beq mi 244 then (some .int) else none) else (bif Nat.beq mi 245 then (some .int) else none)))
def mw_r_3_5 (mi : Nat) : Option FieldType := bif Nat.ble mi 239 then (mw_r_3_5_0 mi) else (mw_r_3_5_1 mi)
def mw_r_3 (mi : Nat) : Option FieldType := bif Nat.ble mi 214 then (bif Nat.ble mi 193 then (mw_r_3_0 mi) else (bif Nat.ble mi 203 then (mw_r_3_1 mi) else (mw_r_3_2 mi))) else (bif Nat.ble mi 224 then (mw_r_3_3 mi) else (bif Nat.ble mi 234 then (mw_r_3_4 mi) else (mw_r_3_5 mi)))
def mw_r_4_0_0 (mi : Nat) : Option FieldType := bif Nat.ble mi 247 then (bif Nat.ble mi 246 then (bif Nat.beq mi 246 then (some .int) else none) else (bif Nat.beq mi 247 then none else none)) else (bif Nat.ble mi 248 then (bif Nat.beq mi 248 then (some .int) else none) else (bif Nat.ble mi 249 then (bif Nat.beq mi 249 then none else none) else (bif Nat.beq mi 250 then (some .int) else none)))
def mw_r_4_0_1 (mi : Nat) : Option FieldType := bif Nat.ble mi 252 then (bif Nat.ble mi 251 then (bif Nat.beq mi 251 then (some .int) else none) else (bif Nat.beq mi 252 then (some .int) else none)) else (bif Nat.ble mi 253 then (bif Nat.beq mi 253 then none else none) else (bif Nat.ble mi 254 then (bif Nat.beq mi 254 then (some .int) else none) else (bif Nat.beq mi 255 then (some .int) else none)))
def mw_r_4_0 (mi : Nat) : Option FieldType := bif Nat.ble mi 250 then (mw_r_4_0_0 mi) else (mw_r_4_0_1 mi)
def mw_r_4_1_0 (mi : Nat) : Option FieldType := bif Nat.ble mi 257 then (bif Nat.ble mi 256 then (bif Nat.beq mi 256 then (some .int) else none) else (bif Nat.beq mi 257 then (some .int) else none)) else (bif Nat.ble mi 258 then (bif Nat.beq mi 258 then (some .int) else none) else (bif Nat.ble mi 259 then (bif Nat.beq mi 259 then (some .int) else none) else (bif Nat.beq mi 260 then (some .boolean) else none)))
def mw_r_4_1_1 (mi : Nat) : Option FieldType := bif Nat.ble mi 262 then (bif Nat.ble mi 261 then (bif Nat.beq mi 261 then none else none) else (bif Nat.beq mi 262 then none else none)) else (bif Nat.ble mi 263 then (bif Nat.beq mi 263 then none else none) else (bif Nat.ble mi 264 then (bif Nat.beq mi 264 then none else none) else (bif Nat.beq mi 265 then none else none)))
def mw_r_4_1 (mi : Nat) : Option FieldType := bif Nat.ble mi 260 then (mw_r_4_1_0 mi) else (mw_r_4_1_1 mi)
def mw_r_4_2_0 (mi : Nat) : Option FieldType := bif Nat.ble mi 267 then (bif Nat.ble mi 266 then (bif Nat.beq mi 266 then none else none) else (bif Nat.beq mi 267 then (some .boolean) else none)) else (bif Nat.ble mi 268 then (bif Nat.beq mi 268 then (some .int) else none) else (bif Nat.ble mi 269 then (bif Nat.beq mi 269 then none else none) else (bif Nat.beq mi 270 then none else none)))
def mw_r_4_2_1 (mi : Nat) : Option FieldType := bif Nat.ble mi 272 then (bif Nat.ble mi 271 then (bif Nat.beq mi 271 then (some .int) else none) else (bif Nat.beq mi 272 then (some .int) else none)) else (bif Nat.ble mi 273 then (bif Nat.beq mi 273 then (some .int) else none) else (bif Nat.ble mi 274 then (bif Nat.beq mi 274 then (some .int) else none) else (bif Nat.beq mi 275 then (some .boolean) else none)))
def mw_r_4_2 (mi : Nat) : Option FieldType := bif Nat.ble mi 270 then (mw_r_4_2_0 mi) else (mw_r_4_2_1 mi)
def mw_r_4_3_0 (mi : Nat) : Option FieldType := bif Nat.ble mi 277 then (bif Nat.ble mi 276 then (bif Nat.beq mi 276 then none else none) else (bif Nat.beq mi 277 then (some .boolean) else none)) else (bif Nat.ble mi 278 then (bif Nat.beq mi 278 then (some .boolean) else none) else (bif Nat.ble mi 279 then (bif Nat.beq mi 279 then (some .int) else none) else (bif Nat.beq mi 280 then none else none)))
def mw_r_4_3_1 (mi : Nat) : Option FieldType := bif Nat.ble mi 282 then (bif Nat.ble mi 281 then (bif Nat.beq mi 281 then none else none) else (bif Nat.beq mi 282 then none else none)) else (bif Nat.ble mi 283 then (bif Nat.beq mi 283 then none else none) else (bif Nat.ble mi 284 then (bif Nat.beq mi 284 then none else none) else (bif Nat.beq mi 285 then (some .boolean) else none)))
def mw_r_4_3 (mi : Nat) : Option FieldType := bif Nat.ble mi 280 then (mw_r_4_3_0 mi) else (mw_r_4_3_1 mi)
def mw_r_4_4_0 (mi : Nat) : Option FieldType := bif Nat.ble mi 287 then (bif Nat.ble mi 286 then (bif Nat.beq mi 286 then none else none) else (bif Nat.beq mi 287 then none else none)) else (bif Nat.ble mi 288 then (bif Nat.beq mi 288 then (some .boolean) else none) else (bif Nat.ble mi 289 then (bif Nat.beq mi 289 then none else none) else (bif Nat.beq mi 290 then none else none)))
def mw_r_4_4_1 (mi : Nat) : Option FieldType := bif Nat.ble mi 292 then (bif Nat.ble mi 291 then (bif Nat.beq mi 291 then (some .boolean) else none) else (bif Nat.beq mi 292 then none else none)) else (bif Nat.ble mi 293 then (bif Nat.beq mi 293 then none else none) else (bif Nat.ble mi 294 then (bif Nat.beq mi 294 then (some .boolean) else none) else (bif Nat.beq mi 295 then none else none)))
def mw_r_4_4 (mi : Nat) : Option FieldType := bif Nat.ble mi 290 then (mw_r_4_4_0 mi) else (mw_r_4_4_1 mi)
def mw_r_4_5_0 (mi : Nat) : Option FieldType := bif Nat.ble mi 297 then (bif Nat.ble mi 296 then (bif Nat.beq mi 296 then none else none) else (bif Nat.beq mi 297 then (some .int) else none)) else (bif Nat.ble mi 298 then (bif Nat.beq mi 298 then none else none) else (bif Nat.ble mi 299 then (bif Nat.beq mi 299 then none else none) else (bif Nat.beq mi 300 then none else none)))
def mw_r_4_5_1 (mi : Nat) : Option FieldType := bif Nat.ble mi 303 then (bif Nat.ble mi 301 then (bif Nat.beq mi 301 then (some .int) else none) else (bif Nat.ble mi 302 then (bif Nat.beq mi 302 then none else none) else (bif Nat.beq mi 303 then none else none))) else (bif Nat.ble mi 304 then (bif Nat.beq mi 304 then none else none) else (bif Nat.ble mi 305 then (bif Nat.beq mi 305 then none else none) else (bif Nat.beq mi 306 then none else none)))
def mw_r_4_5 (mi : Nat) : Option FieldType := bif Nat.ble mi 300 then (mw_r_4_5_0 mi) else (mw_r_4_5_1 mi)
def mw_r_4 (mi : Nat) : Option FieldType := bif Nat.ble mi 275 then (bif Nat.ble mi 255 then (mw_r_4_0 mi) else (bif Nat.ble mi 265 then (mw_r_4_1 mi) else (mw_r_4_2 mi))) else (bif Nat.ble mi 285 then (mw_r_4_3 mi) else (bif Nat.ble mi 295 then (mw_r_4_4 mi) else (mw_r_4_5 mi)))
def mw_r_5_0_0 (mi : Nat) : Option FieldType := bif Nat.ble mi 308 then (bif Nat.ble mi 307 then (bif Nat.beq mi 307 then none else none) else (bif Nat.beq mi 308 then none else none)) else (bif Nat.ble mi 309 then (bif Nat.beq mi 309 then none else none) else (bif Nat.ble mi 310 then (bif Nat.beq mi 310 then none else none) else (bif Nat.beq mi 311 then none else none)))
def mw_r_5_0_1 (mi : Nat) : Option FieldType := bif Nat.ble mi 313 then (bif Nat.ble mi 312 then (bif Nat.beq mi 312 then none else none) else (bif Nat.beq mi 313 then (some .int) else none)) else (bif Nat.ble mi 314 then (bif Nat.beq mi 314 then none else none) else (bif Nat.ble mi 315 then (bif Nat.beq mi 315 then (some .int) else none) else (bif Nat.beq mi 316 then none else none)))
def mw_r_5_0 (mi : Nat) : Option FieldType := bif Nat.ble mi 311 then (mw_r_5_0_0 mi) else (mw_r_5_0_1 mi)
def mw_r_5_1_0 (mi : Nat) : Option FieldType := bif Nat.ble mi 318 then (bif Nat.ble mi 317 then (bif Nat.beq mi 317 then none else none) else (bif Nat.beq mi 318 then (some .boolean) else none)) else (bif Nat.ble mi 319 then (bif Nat.beq mi 319 then (some .int) else none) else (bif Nat.ble mi 320 then (bif Nat.beq mi 320 then (some .int) else none) else (bif Nat.beq mi 321 then none else none)))
def mw_r_5_1_1 (mi : Nat) : Option FieldType := bif Nat.ble mi 323 then (bif Nat.ble mi 322 then (bif Nat.beq mi 322 then (some .int) else none) else (bif Nat.beq mi 323 then none else none)) else (bif Nat.ble mi 324 then (bif Nat.beq mi 324 then none else none) else (bif Nat.ble mi 325 then (bif Nat.beq mi 325 then none else none) else (bif Nat.beq mi 326 then none else none)))
def mw_r_5_1 (mi : Nat) : Option FieldType := bif Nat.ble mi 321 then (mw_r_5_1_0 mi) else (mw_r_5_1_1 mi)
def mw_r_5_2_0 (mi : Nat) : Option FieldType := bif Nat.ble mi 328 then (bif Nat.ble mi 327 then (bif Nat.beq mi 327 then none else none) else (bif Nat.beq mi 328 then none else none)) else (bif Nat.ble mi 329 then (bif Nat.beq mi 329 then none else none) else (bif Nat.ble mi 330 then (bif Nat.beq mi 330 then none else none) else (bif Nat.beq mi 331 then none else none)))
def mw_r_5_2_1 (mi : Nat) : Option FieldType := bif Nat.ble mi 334 then (bif Nat.ble mi 332 then (bif Nat.beq mi 332 then (some .boolean) else none) else (bif Nat.ble mi 333 then (bif Nat.beq mi 333 then none else none) else (bif Nat.beq mi 334 then none else none))) else (bif Nat.ble mi 335 then (bif Nat.beq mi 335 then none else none) else (bif Nat.ble mi 336 then (bif Nat.beq mi 336 then none else none) else (bif Nat.beq mi 337 then none else none)))
def mw_r_5_2 (mi : Nat) : Option FieldType := bif Nat.ble mi 331 then (mw_r_5_2_0 mi) else (mw_r_5_2_1 mi)
def mw_r_5_3_0 (mi : Nat) : Option FieldType := bif Nat.ble mi 339 then (bif Nat.ble mi 338 then (bif Nat.beq mi 338 then (some .boolean) else none) else (bif Nat.beq mi 339 then (some .boolean) else none)) else (bif Nat.ble mi 340 then (bif Nat.beq mi 340 then (some .boolean) else none) else (bif Nat.ble mi 341 then (bif Nat.beq mi 341 then none else none) else (bif Nat.beq mi 342 then none else none)))
def mw_r_5_3_1 (mi : Nat) : Option FieldType := bif Nat.ble mi 344 then (bif Nat.ble mi 343 then (bif Nat.beq mi 343 then none else none) else (bif Nat.beq mi 344 then none else none)) else (bif Nat.ble mi 345 then (bif Nat.beq mi 345 then none else none) else (bif Nat.ble mi 346 then (bif Nat.beq mi 346 then (some .boolean) else none) else (bif Nat.beq mi 347 then (some .int) else none)))
def mw_r_5_3 (mi : Nat) : Option FieldType := bif Nat.ble mi 342 then (mw_r_5_3_0 mi) else (mw_r_5_3_1 mi)
def mw_r_5_4_0 (mi : Nat) : Option FieldType := bif Nat.ble mi 349 then (bif Nat.ble mi 348 then (bif Nat.beq mi 348 then (some .int) else none) else (bif Nat.beq mi 349 then none else none)) else (bif Nat.ble mi 350 then (bif Nat.beq mi 350 then (some .int) else none) else (bif Nat.ble mi 351 then (bif Nat.beq mi 351 then (some .boolean) else none) else (bif Nat.beq mi 352 then (some .int) else none)))
def mw_r_5_4_1 (mi : Nat) : Option FieldType := bif Nat.ble mi 354 then (bif Nat.ble mi 353 then (bif Nat.beq mi 353 then (some .int) else none) else (bif Nat.beq mi 354 then (some .int) else none)) else (bif Nat.ble mi 355 then (bif Nat.beq mi 355 then (some .int) else none) else (bif Nat.ble mi 356 then (bif Nat.beq mi 356 then (some .int) else none) else (bif Nat.beq mi 357 then (some .boolean) else none)))
def mw_r_5_4 (mi : Nat) : Option FieldType := bif Nat.ble mi 352 then (mw_r_5_4_0 mi) else (mw_r_5_4_1 mi)
def mw_r_5_5_0 (mi : Nat) : Option FieldType := bif Nat.ble mi 359 then (bif Nat.ble mi 358 then (bif Nat.beq mi 358 then (some .int) else none) else (bif Nat.beq mi 359 then (some .int) else none)) else (bif Nat.ble mi 360 then (bif Nat.beq mi 360 then (some .int) else none) else (bif Nat.ble mi 361 then (bif Nat.beq mi 361 then (some .int) else none) else (bif Nat.beq mi 362 then (some .int) else none)))
def mw_r_5_5_1 (mi : Nat) : Option FieldType := bif Nat.ble mi 365 then (bif Nat.ble mi 363 then (bif Nat.beq mi 363 then (some .int) else none) else (bif Nat.ble mi 364 then (bif Nat.beq mi 364 then (some .int) else none) else (bif Nat.beq mi 365 then (some .int) else none))) else (bif Nat.ble mi 366 then (bif Nat.beq mi 366 then (some .int) else none) else (bif Nat.ble mi 367 then (bif Nat.beq mi 367 then (some .int) else none) else (bif Nat.beq mi 368 then (some .long) else none)))
def mw_r_5_5 (mi : Nat) : Option FieldType := bif Nat.ble mi 362 then (mw_r_5_5_0 mi) else (mw_r_5_5_1 mi)
def mw_r_5 (mi : Nat) : Option FieldType := bif Nat.ble mi 337 then (bif Nat.ble mi 316 then (mw_r_5_0 mi) else (bif Nat.ble mi 326 then (mw_r_5_1 mi) else (mw_r_5_2 mi))) else (bif Nat.ble mi 347 then (mw_r_5_3 mi) else (bif Nat.ble mi 357 then (mw_r_5_4 mi) else (mw_r_5_5 mi)))
def mw_r (mi : Nat) : Option FieldType := bif Nat.ble mi 183 then (bif Nat.ble mi 60 then (mw_r_0 mi) else (bif Nat.ble mi 122 then (mw_r_1 mi) else (mw_r_2 mi))) else (bif Nat.ble mi 245 then (mw_r_3 mi) else (bif Nat.ble mi 306 then (mw_r_4 mi) else (mw_r_5 mi)))
def mw_na_0_0_0 (mi : Nat) : Nat := bif Nat.ble mi 1 then (bif Nat.ble mi 0 then (bif Nat.beq mi 0 then 3 else 0) else (bif Nat.beq mi 1 then 1 else 0)) else (bif Nat.ble mi 2 then (bif Nat.beq mi 2 then 1 else 0) else (bif Nat.ble mi 3 then (bif Nat.beq mi 3 then 1 else 0) else (bif Nat.beq mi 4 then 2 else 0)))
def mw_na_0_0_1 (mi : Nat) : Nat := bif Nat.ble mi 6 then (bif Nat.ble mi 5 then (bif Nat.beq mi 5 then 1 else 0) else (bif Nat.beq mi 6 then 1 else 0)) else (bif Nat.ble mi 7 then (bif Nat.beq mi 7 then 0 else 0) else (bif Nat.ble mi 8 then (bif Nat.beq mi 8 then 1 else 0) else (bif Nat.beq mi 9 then 1 else 0)))
def mw_na_0_0 (mi : Nat) : Nat := bif Nat.ble mi 4 then (mw_na_0_0_0 mi) else (mw_na_0_0_1 mi)
def mw_na_0_1_0 (mi : Nat) : Nat := bif Nat.ble mi 11 then (bif Nat.ble mi 10 then (bif Nat.beq mi 10 then 1 else 0) else (bif Nat.beq mi 11 then 3 else 0)) else (bif Nat.ble mi 12 then (bif Nat.beq mi 12 then 0 else 0) else (bif Nat.ble mi 13 then (bif Nat.beq mi 13 then 1 else 0) else (bif Nat.beq mi 14 then 1 else 0)))
def mw_na_0_1_1 (mi : Nat) : Nat := bif Nat.ble mi 16 then (bif Nat.ble mi 15 then (bif Nat.beq mi 15 then 2 else 0) else (bif Nat.beq mi 16 then 2 else 0)) else (bif Nat.ble mi 17 then (bif Nat.beq mi 17 then 3 else 0) else (bif Nat.ble mi 18 then (bif Nat.beq mi 18 then 2 else 0) else (bif Nat.beq mi 19 then 0 else 0)))
def mw_na_0_1 (mi : Nat) : Nat := bif Nat.ble mi 14 then (mw_na_0_1_0 mi) else (mw_na_0_1_1 mi)
def mw_na_0_2_0 (mi : Nat) : Nat := bif Nat.ble mi 21 then (bif Nat.ble mi 20 then (bif Nat.beq mi 20 then 1 else 0) else (bif Nat.beq mi 21 then 2 else 0)) else (bif Nat.ble mi 22 then (bif Nat.beq mi 22 then 1 else 0) else (bif Nat.ble mi 23 then (bif Nat.beq mi 23 then 0 else 0) else (bif Nat.beq mi 24 then 1 else 0)))
def mw_na_0_2_1 (mi : Nat) : Nat := bif Nat.ble mi 26 then (bif Nat.ble mi 25 then (bif Nat.beq mi 25 then 1 else 0) else (bif Nat.beq mi 26 then 0 else 0)) else (bif Nat.ble mi 27 then (bif Nat.beq mi 27 then 2 else 0) else (bif Nat.ble mi 28 then (bif Nat.beq mi 28 then 2 else 0) else (bif Nat.beq mi 29 then 2 else 0)))
def mw_na_0_2 (mi : Nat) : Nat := bif Nat.ble mi 24 then (mw_na_0_2_0 mi) else (mw_na_0_2_1 mi)
def mw_na_0_3_0 (mi : Nat) : Nat := bif Nat.ble mi 31 then (bif Nat.ble mi 30 then (bif Nat.beq mi 30 then 2 else 0) else (bif Nat.beq mi 31 then 1 else 0)) else (bif Nat.ble mi 32 then (bif Nat.beq mi 32 then 1 else 0) else (bif Nat.ble mi 33 then (bif Nat.beq mi 33 then 1 else 0) else (bif Nat.beq mi 34 then 0 else 0)))
def mw_na_0_3_1 (mi : Nat) : Nat := bif Nat.ble mi 36 then (bif Nat.ble mi 35 then (bif Nat.beq mi 35 then 2 else 0) else (bif Nat.beq mi 36 then 0 else 0)) else (bif Nat.ble mi 37 then (bif Nat.beq mi 37 then 3 else 0) else (bif Nat.ble mi 38 then (bif Nat.beq mi 38 then 2 else 0) else (bif Nat.beq mi 39 then 0 else 0)))
def mw_na_0_3 (mi : Nat) : Nat := bif Nat.ble mi 34 then (mw_na_0_3_0 mi) else (mw_na_0_3_1 mi)
def mw_na_0_4_0 (mi : Nat) : Nat := bif Nat.ble mi 41 then (bif Nat.ble mi 40 then (bif Nat.beq mi 40 then 1 else 0) else (bif Nat.beq mi 41 then 1 else 0)) else (bif Nat.ble mi 42 then (bif Nat.beq mi 42 then 1 else 0) else (bif Nat.ble mi 43 then (bif Nat.beq mi 43 then 2 else 0) else (bif Nat.beq mi 44 then 0 else 0)))
def mw_na_0_4_1 (mi : Nat) : Nat := bif Nat.ble mi 46 then (bif Nat.ble mi 45 then (bif Nat.beq mi 45 then 1 else 0) else (bif Nat.beq mi 46 then 1 else 0)) else (bif Nat.ble mi 47 then (bif Nat.beq mi 47 then 2 else 0) else (bif Nat.ble mi 48 then (bif Nat.beq mi 48 then 5 else 0) else (bif Nat.beq mi 49 then 1 else 0)))
def mw_na_0_4 (mi : Nat) : Nat := bif Nat.ble mi 44 then (mw_na_0_4_0 mi) else (mw_na_0_4_1 mi)
def mw_na_0_5_0 (mi : Nat) : Nat := bif Nat.ble mi 51 then (bif Nat.ble mi 50 then (bif Nat.beq mi 50 then 3 else 0) else (bif Nat.beq mi 51 then 3 else 0)) else (bif Nat.ble mi 52 then (bif Nat.beq mi 52 then 3 else 0) else (bif Nat.ble mi 53 then (bif Nat.beq mi 53 then 2 else 0) else (bif Nat.beq mi 54 then 0 else 0)))
def mw_na_0_5_1 (mi : Nat) : Nat := bif Nat.ble mi 57 then (bif Nat.ble mi 55 then (bif Nat.beq mi 55 then 0 else 0) else (bif Nat.ble mi 56 then (bif Nat.beq mi 56 then 1 else 0) else (bif Nat.beq mi 57 then 1 else 0))) else (bif Nat.ble mi 58 then (bif Nat.beq mi 58 then 1 else 0) else (bif Nat.ble mi 59 then (bif Nat.beq mi 59 then 1 else 0) else (bif Nat.beq mi 60 then 3 else 0)))
def mw_na_0_5 (mi : Nat) : Nat := bif Nat.ble mi 54 then (mw_na_0_5_0 mi) else (mw_na_0_5_1 mi)
def mw_na_0 (mi : Nat) : Nat := bif Nat.ble mi 29 then (bif Nat.ble mi 9 then (mw_na_0_0 mi) else (bif Nat.ble mi 19 then (mw_na_0_1 mi) else (mw_na_0_2 mi))) else (bif Nat.ble mi 39 then (mw_na_0_3 mi) else (bif Nat.ble mi 49 then (mw_na_0_4 mi) else (mw_na_0_5 mi)))
def mw_na_1_0_0 (mi : Nat) : Nat := bif Nat.ble mi 62 then (bif Nat.ble mi 61 then (bif Nat.beq mi 61 then 1 else 0) else (bif Nat.beq mi 62 then 1 else 0)) else (bif Nat.ble mi 63 then (bif Nat.beq mi 63 then 1 else 0) else (bif Nat.ble mi 64 then (bif Nat.beq mi 64 then 1 else 0) else (bif Nat.beq mi 65 then 0 else 0)))
def mw_na_1_0_1 (mi : Nat) : Nat := bif Nat.ble mi 67 then (bif Nat.ble mi 66 then (bif Nat.beq mi 66 then 0 else 0) else (bif Nat.beq mi 67 then 0 else 0)) else (bif Nat.ble mi 68 then (bif Nat.beq mi 68 then 1 else 0) else (bif Nat.ble mi 69 then (bif Nat.beq mi 69 then 1 else 0) else (bif Nat.beq mi 70 then 0 else 0)))
def mw_na_1_0 (mi : Nat) : Nat := bif Nat.ble mi 65 then (mw_na_1_0_0 mi) else (mw_na_1_0_1 mi)
def mw_na_1_1_0 (mi : Nat) : Nat := bif Nat.ble mi 72 then (bif Nat.ble mi 71 then (bif Nat.beq mi 71 then 1 else 0) else (bif Nat.beq mi 72 then 0 else 0)) else (bif Nat.ble mi 73 then (bif Nat.beq mi 73 then 2 else 0) else (bif Nat.ble mi 74 then (bif Nat.beq mi 74 then 1 else 0) else (bif Nat.beq mi 75 then 1 else 0)))
def mw_na_1_1_1 (mi : Nat) : Nat := bif Nat.ble mi 77 then (bif Nat.ble mi 76 then (bif Nat.beq mi 76 then 4 else 0) else (bif Nat.beq mi 77 then 1 else 0)) else (bif Nat.ble mi 78 then (bif Nat.beq mi 78 then 1 else 0) else (bif Nat.ble mi 79 then (bif Nat.beq mi 79 then 1 else 0) else (bif Nat.beq mi 80 then 1 else 0)))
def mw_na_1_1 (mi : Nat) : Nat := bif Nat.ble mi 75 then (mw_na_1_1_0 mi) else (mw_na_1_1_1 mi)
def mw_na_1_2_0 (mi : Nat) : Nat := bif Nat.ble mi 82 then (bif Nat.ble mi 81 then (bif Nat.beq mi 81 then 1 else 0) else (bif Nat.beq mi 82 then 3 else 0)) else (bif Nat.ble mi 83 then (bif Nat.beq mi 83 then 1 else 0) else (bif Nat.ble mi 84 then (bif Nat.beq mi 84 then 1 else 0) else (bif Nat.beq mi 85 then 1 else 0)))
def mw_na_1_2_1 (mi : Nat) : Nat := bif Nat.ble mi 88 then (bif Nat.ble mi 86 then (bif Nat.beq mi 86 then 0 else 0) else (bif Nat.ble mi 87 then (bif Nat.beq mi 87 then 0 else 0) else (bif Nat.beq mi 88 then 0 else 0))) else (bif Nat.ble mi 89 then (bif Nat.beq mi 89 then 3 else 0) else (bif Nat.ble mi 90 then (bif Nat.beq mi 90 then 1 else 0) else (bif Nat.beq mi 91 then 0 else 0)))
def mw_na_1_2 (mi : Nat) : Nat := bif Nat.ble mi 85 then (mw_na_1_2_0 mi) else (mw_na_1_2_1 mi)
def mw_na_1_3_0 (mi : Nat) : Nat := bif Nat.ble mi 93 then (bif Nat.ble mi 92 then (bif Nat.beq mi 92 then 0 else 0) else (bif Nat.beq mi 93 then 1 else 0)) else (bif Nat.ble mi 94 then (bif Nat.beq mi 94 then 0 else 0) else (bif Nat.ble mi 95 then (bif Nat.beq mi 95 then 0 else 0) else (bif Nat.beq mi 96 then 0 else 0)))
def mw_na_1_3_1 (mi : Nat) : Nat := bif Nat.ble mi 98 then (bif Nat.ble mi 97 then (bif Nat.beq mi 97 then 0 else 0) else (bif Nat.beq mi 98 then 0 else 0)) else (bif Nat.ble mi 99 then (bif Nat.beq mi 99 then 1 else 0) else (bif Nat.ble mi 100 then (bif Nat.beq mi 100 then 1 else 0) else (bif Nat.beq mi 101 then 1 else 0)))
def mw_na_1_3 (mi : Nat) : Nat := bif Nat.ble mi 96 then (mw_na_1_3_0 mi) else (mw_na_1_3_1 mi)
def mw_na_1_4_0 (mi : Nat) : Nat := bif Nat.ble mi 103 then (bif Nat.ble mi 102 then (bif Nat.beq mi 102 then 2 else 0) else (bif Nat.beq mi 103 then 1 else 0)) else (bif Nat.ble mi 104 then (bif Nat.beq mi 104 then 1 else 0) else (bif Nat.ble mi 105 then (bif Nat.beq mi 105 then 1 else 0) else (bif Nat.beq mi 106 then 3 else 0)))
def mw_na_1_4_1 (mi : Nat) : Nat := bif Nat.ble mi 108 then (bif Nat.ble mi 107 then (bif Nat.beq mi 107 then 1 else 0) else (bif Nat.beq mi 108 then 1 else 0)) else (bif Nat.ble mi 109 then (bif Nat.beq mi 109 then 0 else 0) else (bif Nat.ble mi 110 then (bif Nat.beq mi 110 then 1 else 0) else (bif Nat.beq mi 111 then 5 else 0)))
def mw_na_1_4 (mi : Nat) : Nat := bif Nat.ble mi 106 then (mw_na_1_4_0 mi) else (mw_na_1_4_1 mi)
def mw_na_1_5_0 (mi : Nat) : Nat := bif Nat.ble mi 113 then (bif Nat.ble mi 112 then (bif Nat.beq mi 112 then 1 else 0) else (bif Nat.beq mi 113 then 1 else 0)) else (bif Nat.ble mi 114 then (bif Nat.beq mi 114 then 3 else 0) else (bif Nat.ble mi 115 then (bif Nat.beq mi 115 then 3 else 0) else (bif Nat.beq mi 116 then 2 else 0)))
def mw_na_1_5_1 (mi : Nat) : Nat := bif Nat.ble mi 119 then (bif Nat.ble mi 117 then (bif Nat.beq mi 117 then 2 else 0) else (bif Nat.ble mi 118 then (bif Nat.beq mi 118 then 2 else 0) else (bif Nat.beq mi 119 then 4 else 0))) else (bif Nat.ble mi 120 then (bif Nat.beq mi 120 then 3 else 0) else (bif Nat.ble mi 121 then (bif Nat.beq mi 121 then 2 else 0) else (bif Nat.beq mi 122 then 2 else 0)))
def mw_na_1_5 (mi : Nat) : Nat := bif Nat.ble mi 116 then (mw_na_1_5_0 mi) else (mw_na_1_5_1 mi)
def mw_na_1 (mi : Nat) : Nat := bif Nat.ble mi 91 then (bif Nat.ble mi 70 then (mw_na_1_0 mi) else (bif Nat.ble mi 80 then (mw_na_1_1 mi) else (mw_na_1_2 mi))) else (bif Nat.ble mi 101 then (mw_na_1_3 mi) else (bif Nat.ble mi 111 then (mw_na_1_4 mi) else (mw_na_1_5 mi)))
def mw_na_2_0_0 (mi : Nat) : Nat := bif Nat.ble mi 124 then (bif Nat.ble mi 123 then (bif Nat.beq mi 123 then 2 else 0) else (bif Nat.beq mi 124 then 4 else 0)) else (bif Nat.ble mi 125 then (bif Nat.beq mi 125 then 3 else 0) else (bif Nat.ble mi 126 then (bif Nat.beq mi 126 then 0 else 0) else (bif Nat.beq mi 127 then 2 else 0)))
def mw_na_2_0_1 (mi : Nat) : Nat := bif Nat.ble mi 129 then (bif Nat.ble mi 128 then (bif Nat.beq mi 128 then 1 else 0) else (bif Nat.beq mi 129 then 4 else 0)) else (bif Nat.ble mi 130 then (bif Nat.beq mi 130 then 0 else 0) else (bif Nat.ble mi 131 then (bif Nat.beq mi 131 then 1 else 0) else (bif Nat.beq mi 132 then 2 else 0)))
def mw_na_2_0 (mi : Nat) : Nat := bif Nat.ble mi 127 then (mw_na_2_0_0 mi) else (mw_na_2_0_1 mi)
def mw_na_2_1_0 (mi : Nat) : Nat := bif Nat.ble mi 134 then (bif Nat.ble mi 133 then (bif Nat.beq mi 133 then 1 else 0) else (bif Nat.beq mi 134 then 1 else 0)) else (bif Nat.ble mi 135 then (bif Nat.beq mi 135 then 2 else 0) else (bif Nat.ble mi 136 then (bif Nat.beq mi 136 then 1 else 0) else (bif Nat.beq mi 137 then 1 else 0)))
def mw_na_2_1_1 (mi : Nat) : Nat := bif Nat.ble mi 139 then (bif Nat.ble mi 138 then (bif Nat.beq mi 138 then 1 else 0) else (bif Nat.beq mi 139 then 1 else 0)) else (bif Nat.ble mi 140 then (bif Nat.beq mi 140 then 1 else 0) else (bif Nat.ble mi 141 then (bif Nat.beq mi 141 then 1 else 0) else (bif Nat.beq mi 142 then 1 else 0)))
def mw_na_2_1 (mi : Nat) : Nat := bif Nat.ble mi 137 then (mw_na_2_1_0 mi) else (mw_na_2_1_1 mi)
def mw_na_2_2_0 (mi : Nat) : Nat := bif Nat.ble mi 144 then (bif Nat.ble mi 143 then (bif Nat.beq mi 143 then 1 else 0) else (bif Nat.beq mi 144 then 1 else 0)) else (bif Nat.ble mi 145 then (bif Nat.beq mi 145 then 1 else 0) else (bif Nat.ble mi 146 then (bif Nat.beq mi 146 then 1 else 0) else (bif Nat.beq mi 147 then 1 else 0)))
def mw_na_2_2_1 (mi : Nat) : Nat := bif Nat.ble mi 149 then (bif Nat.ble mi 148 then (bif Nat.beq mi 148 then 1 else 0) else (bif Nat.beq mi 149 then 1 else 0)) else (bif Nat.ble mi 150 then (bif Nat.beq mi 150 then 1 else 0) else (bif Nat.ble mi 151 then (bif Nat.beq mi 151 then 1 else 0) else (bif Nat.beq mi 152 then 1 else 0)))
def mw_na_2_2 (mi : Nat) : Nat := bif Nat.ble mi 147 then (mw_na_2_2_0 mi) else (mw_na_2_2_1 mi)
def mw_na_2_3_0 (mi : Nat) : Nat := bif Nat.ble mi 154 then (bif Nat.ble mi 153 then (bif Nat.beq mi 153 then 3 else 0) else (bif Nat.beq mi 154 then 1 else 0)) else (bif Nat.ble mi 155 then (bif Nat.beq mi 155 then 1 else 0) else (bif Nat.ble mi 156 then (bif Nat.beq mi 156 then 2 else 0) else (bif Nat.beq mi 157 then 0 else 0)))
def mw_na_2_3_1 (mi : Nat) : Nat := bif Nat.ble mi 159 then (bif Nat.ble mi 158 then (bif Nat.beq mi 158 then 0 else 0) else (bif Nat.beq mi 159 then 1 else 0)) else (bif Nat.ble mi 160 then (bif Nat.beq mi 160 then 1 else 0) else (bif Nat.ble mi 161 then (bif Nat.beq mi 161 then 1 else 0) else (bif Nat.beq mi 162 then 0 else 0)))
def mw_na_2_3 (mi : Nat) : Nat := bif Nat.ble mi 157 then (mw_na_2_3_0 mi) else (mw_na_2_3_1 mi)
def mw_na_2_4_0 (mi : Nat) : Nat := bif Nat.ble mi 164 then (bif Nat.ble mi 163 then (bif Nat.beq mi 163 then 0 else 0) else (bif Nat.beq mi 164 then 0 else 0)) else (bif Nat.ble mi 165 then (bif Nat.beq mi 165 then 0 else 0) else (bif Nat.ble mi 166 then (bif Nat.beq mi 166 then 0 else 0) else (bif Nat.beq mi 167 then 0 else 0)))
def mw_na_2_4_1 (mi : Nat) : Nat := bif Nat.ble mi 169 then (bif Nat.ble mi 168 then (bif Nat.beq mi 168 then 0 else 0) else (bif Nat.beq mi 169 then 2 else 0)) else (bif Nat.ble mi 170 then (bif Nat.beq mi 170 then 0 else 0) else (bif Nat.ble mi 171 then (bif Nat.beq mi 171 then 1 else 0) else (bif Nat.beq mi 172 then 0 else 0)))
def mw_na_2_4 (mi : Nat) : Nat := bif Nat.ble mi 167 then (mw_na_2_4_0 mi) else (mw_na_2_4_1 mi)
def mw_na_2_5_0 (mi : Nat) : Nat := bif Nat.ble mi 174 then (bif Nat.ble mi 173 then (bif Nat.beq mi 173 then 0 else 0) else (bif Nat.beq mi 174 then 1 else 0)) else (bif Nat.ble mi 175 then (bif Nat.beq mi 175 then 0 else 0) else (bif Nat.ble mi 176 then (bif Nat.beq mi 176 then 1 else 0) else (bif Nat.beq mi 177 then 0 else 0)))
def mw_na_2_5_1 (mi : Nat) : Nat := bif Nat.ble mi 180 then (bif Nat.ble mi 178 then (bif Nat.beq mi 178 then 0 else 0) else (bif Nat.ble mi 179 then (bif Nat.beq mi 179 then 2 else 0) else (bif Nat.beq mi 180 then 1 else 0))) else (bif Nat.ble mi 181 then (bif Nat.beq mi 181 then 1 else 0) else (bif Nat.ble mi 182 then (bif Nat.beq mi 182 then 1 else 0) else (bif Nat.beq mi 183 then 1 else 0)))
def mw_na_2_5 (mi : Nat) : Nat := bif Nat.ble mi 177 then (mw_na_2_5_0 mi) else (mw_na_2_5_1 mi)
def mw_na_2 (mi : Nat) : Nat := bif Nat.ble mi 152 then (bif Nat.ble mi 132 then (mw_na_2_0 mi) else (bif Nat.ble mi 142 then (mw_na_2_1 mi) else (mw_na_2_2 mi))) else (bif Nat.ble mi 162 then (mw_na_2_3 mi) else (bif Nat.ble mi 172 then (mw_na_2_4 mi) else (mw_na_2_5 mi)))
def mw_na_3_0_0 (mi : Nat) : Nat := bif Nat.ble mi 185 then (bif Nat.ble mi 184 then (bif Nat.beq mi 184 then 2 else 0) else (bif Nat.beq mi 185 then 2 else 0)) else (bif Nat.ble mi 186 then (bif Nat.beq mi 186 then 2 else 0) else (bif Nat.ble mi 187 then (bif Nat.beq mi 187 then 1 else 0) else (bif Nat.beq mi 188 then 1 else 0)))
def mw_na_3_0_1 (mi : Nat) : Nat := bif Nat.ble mi 190 then (bif Nat.ble mi 189 then (bif Nat.beq mi 189 then 1 else 0) else (bif Nat.beq mi 190 then 3 else 0)) else (bif Nat.ble mi 191 then (bif Nat.beq mi 191 then 2 else 0) else (bif Nat.ble mi 192 then (bif Nat.beq mi 192 then 0 else 0) else (bif Nat.beq mi 193 then 1 else 0)))
def mw_na_3_0 (mi : Nat) : Nat := bif Nat.ble mi 188 then (mw_na_3_0_0 mi) else (mw_na_3_0_1 mi)
def mw_na_3_1_0 (mi : Nat) : Nat := bif Nat.ble mi 195 then (bif Nat.ble mi 194 then (bif Nat.beq mi 194 then 1 else 0) else (bif Nat.beq mi 195 then 1 else 0)) else (bif Nat.ble mi 196 then (bif Nat.beq mi 196 then 0 else 0) else (bif Nat.ble mi 197 then (bif Nat.beq mi 197 then 0 else 0) else (bif Nat.beq mi 198 then 3 else 0)))
def mw_na_3_1_1 (mi : Nat) : Nat := bif Nat.ble mi 200 then (bif Nat.ble mi 199 then (bif Nat.beq mi 199 then 3 else 0) else (bif Nat.beq mi 200 then 1 else 0)) else (bif Nat.ble mi 201 then (bif Nat.beq mi 201 then 1 else 0) else (bif Nat.ble mi 202 then (bif Nat.beq mi 202 then 1 else 0) else (bif Nat.beq mi 203 then 2 else 0)))
def mw_na_3_1 (mi : Nat) : Nat := bif Nat.ble mi 198 then (mw_na_3_1_0 mi) else (mw_na_3_1_1 mi)
def mw_na_3_2_0 (mi : Nat) : Nat := bif Nat.ble mi 205 then (bif Nat.ble mi 204 then (bif Nat.beq mi 204 then 0 else 0) else (bif Nat.beq mi 205 then 0 else 0)) else (bif Nat.ble mi 206 then (bif Nat.beq mi 206 then 1 else 0) else (bif Nat.ble mi 207 then (bif Nat.beq mi 207 then 1 else 0) else (bif Nat.beq mi 208 then 1 else 0)))
def mw_na_3_2_1 (mi : Nat) : Nat := bif Nat.ble mi 211 then (bif Nat.ble mi 209 then (bif Nat.beq mi 209 then 1 else 0) else (bif Nat.ble mi 210 then (bif Nat.beq mi 210 then 1 else 0) else (bif Nat.beq mi 211 then 0 else 0))) else (bif Nat.ble mi 212 then (bif Nat.beq mi 212 then 0 else 0) else (bif Nat.ble mi 213 then (bif Nat.beq mi 213 then 0 else 0) else (bif Nat.beq mi 214 then 1 else 0)))
def mw_na_3_2 (mi : Nat) : Nat := bif Nat.ble mi 208 then (mw_na_3_2_0 mi) else (mw_na_3_2_1 mi)
def mw_na_3_3_0 (mi : Nat) : Nat := bif Nat.ble mi 216 then (bif Nat.ble mi 215 then (bif Nat.beq mi 215 then 0 else 0) else (bif Nat.beq mi 216 then 1 else 0)) else (bif Nat.ble mi 217 then (bif Nat.beq mi 217 then 0 else 0) else (bif Nat.ble mi 218 then (bif Nat.beq mi 218 then 2 else 0) else (bif Nat.beq mi 219 then 1 else 0)))
def mw_na_3_3_1 (mi : Nat) : Nat := bif Nat.ble mi 221 then (bif Nat.ble mi 220 then (bif Nat.beq mi 220 then 1 else 0) else (bif Nat.beq mi 221 then 1 else 0)) else (bif Nat.ble mi 222 then (bif Nat.beq mi 222 then 1 else 0) else (bif Nat.ble mi 223 then (bif Nat.beq mi 223 then 0 else 0) else (bif Nat.beq mi 224 then 0 else 0)))
def mw_na_3_3 (mi : Nat) : Nat := bif Nat.ble mi 219 then (mw_na_3_3_0 mi) else (mw_na_3_3_1 mi)
def mw_na_3_4_0 (mi : Nat) : Nat := bif Nat.ble mi 226 then (bif Nat.ble mi 225 then (bif Nat.beq mi 225 then 1 else 0) else (bif Nat.beq mi 226 then 1 else 0)) else (bif Nat.ble mi 227 then (bif Nat.beq mi 227 then 1 else 0) else (bif Nat.ble mi 228 then (bif Nat.beq mi 228 then 1 else 0) else (bif Nat.beq mi 229 then 2 else 0)))
def mw_na_3_4_1 (mi : Nat) : Nat := bif Nat.ble mi 231 then (bif Nat.ble mi 230 then (bif Nat.beq mi 230 then 3 else 0) else (bif Nat.beq mi 231 then 5 else 0)) else (bif Nat.ble mi 232 then (bif Nat.beq mi 232 then 0 else 0) else (bif Nat.ble mi 233 then (bif Nat.beq mi 233 then 1 else 0) else (bif Nat.beq mi 234 then 1 else 0)))
def mw_na_3_4 (mi : Nat) : Nat := bif Nat.ble mi 229 then (mw_na_3_4_0 mi) else (mw_na_3_4_1 mi)
def mw_na_3_5_0 (mi : Nat) : Nat := bif Nat.ble mi 236 then (bif Nat.ble mi 235 then (bif Nat.beq mi 235 then 1 else 0) else (bif Nat.beq mi 236 then 1 else 0)) else (bif Nat.ble mi 237 then (bif Nat.beq mi 237 then 0 else 0) else (bif Nat.ble mi 238 then (bif Nat.beq mi 238 then 0 else 0) else (bif Nat.beq mi 239 then 0 else 0)))
def mw_na_3_5_1 (mi : Nat) : Nat := bif Nat.ble mi 242 then (bif Nat.ble mi 240 then (bif Nat.beq mi 240 then 1 else 0) else (bif Nat.ble mi 241 then (bif Nat.beq mi 241 then 0 else 0) else (bif Nat.beq mi 242 then 2 else 0))) else (bif Nat.ble mi 243 then (bif Nat.beq mi 243 then 1 else 0) else (bif Nat.ble mi 244 then (bif Nat.beq mi 244 then 3 else 0) else (bif Nat.beq mi 245 then 1 else 0)))
def mw_na_3_5 (mi : Nat) : Nat := bif Nat.ble mi 239 then (mw_na_3_5_0 mi) else (mw_na_3_5_1 mi)
def mw_na_3 (mi : Nat) : Nat := bif Nat.ble mi 214 then (bif Nat.ble mi 193 then (mw_na_3_0 mi) else (bif Nat.ble mi 203 then (mw_na_3_1 mi) else (mw_na_3_2 mi))) else (bif Nat.ble mi 224 then (mw_na_3_3 mi) else (bif Nat.ble mi 234 then (mw_na_3_4 mi) else (mw_na_3_5 mi)))
def mw_na_4_0_0 (mi : Nat) : Nat := bif Nat.ble mi 247 then (bif Nat.ble mi 246 then (bif Nat.beq mi 246 then 2 else 0) else (bif Nat.beq mi 247 then 0 else 0)) else (bif Nat.ble mi 248 then (bif Nat.beq mi 248 then 1 else 0) else (bif Nat.ble mi 249 then (bif Nat.beq mi 249 then 4 else 0) else (bif Nat.beq mi 250 then 1 else 0)))
def mw_na_4_0_1 (mi : Nat) : Nat := bif Nat.ble mi 252 then (bif Nat.ble mi 251 then (bif Nat.beq mi 251 then 2 else 0) else (bif Nat.beq mi 252 then 1 else 0)) else (bif Nat.ble mi 253 then (bif Nat.beq mi 253 then 3 else 0) else (bif Nat.ble mi 254 then (bif Nat.beq mi 254 then 1 else 0) else (bif Nat.beq mi 255 then 1 else 0)))
def mw_na_4_0 (mi : Nat) : Nat := bif Nat.ble mi 250 then (mw_na_4_0_0 mi) else (mw_na_4_0_1 mi)
def mw_na_4_1_0 (mi : Nat) : Nat := bif Nat.ble mi 257 then (bif Nat.ble mi 256 then (bif Nat.beq mi 256 then 0 else 0) else (bif Nat.beq mi 257 then 0 else 0)) else (bif Nat.ble mi 258 then (bif Nat.beq mi 258 then 1 else 0) else (bif Nat.ble mi 259 then (bif Nat.beq mi 259 then 1 else 0) else (bif Nat.beq mi 260 then 1 else 0)))
def mw_na_4_1_1 (mi : Nat) : Nat := bif Nat.ble mi 262 then (bif Nat.ble mi 261 then (bif Nat.beq mi 261 then 0 else 0) else (bif Nat.beq mi 262 then 1 else 0)) else (bif Nat.ble mi 263 then (bif Nat.beq mi 263 then 0 else 0) else (bif Nat.ble mi 264 then (bif Nat.beq mi 264 then 0 else 0) else (bif Nat.beq mi 265 then 0 else 0)))
def mw_na_4_1 (mi : Nat) : Nat := bif Nat.ble mi 260 then (mw_na_4_1_0 mi) else (mw_na_4_1_1 mi)
def mw_na_4_2_0 (mi : Nat) : Nat := bif Nat.ble mi 267 then (bif Nat.ble mi 266 then (bif Nat.beq mi 266 then 1 else 0) else (bif Nat.beq mi 267 then 1 else 0)) else (bif Nat.ble mi 268 then (bif Nat.beq mi 268 then 1 else 0) else (bif Nat.ble mi 269 then (bif Nat.beq mi 269 then 2 else 0) else (bif Nat.beq mi 270 then 2 else 0)))
def mw_na_4_2_1 (mi : Nat) : Nat := bif Nat.ble mi 272 then (bif Nat.ble mi 271 then (bif Nat.beq mi 271 then 1 else 0) else (bif Nat.beq mi 272 then 1 else 0)) else (bif Nat.ble mi 273 then (bif Nat.beq mi 273 then 2 else 0) else (bif Nat.ble mi 274 then (bif Nat.beq mi 274 then 2 else 0) else (bif Nat.beq mi 275 then 0 else 0)))
def mw_na_4_2 (mi : Nat) : Nat := bif Nat.ble mi 270 then (mw_na_4_2_0 mi) else (mw_na_4_2_1 mi)
def mw_na_4_3_0 (mi : Nat) : Nat := bif Nat.ble mi 277 then (bif Nat.ble mi 276 then (bif Nat.beq mi 276 then 4 else 0) else (bif Nat.beq mi 277 then 1 else 0)) else (bif Nat.ble mi 278 then (bif Nat.beq mi 278 then 1 else 0) else (bif Nat.ble mi 279 then (bif Nat.beq mi 279 then 1 else 0) else (bif Nat.beq mi 280 then 2 else 0)))
def mw_na_4_3_1 (mi : Nat) : Nat := bif Nat.ble mi 282 then (bif Nat.ble mi 281 then (bif Nat.beq mi 281 then 1 else 0) else (bif Nat.beq mi 282 then 1 else 0)) else (bif Nat.ble mi 283 then (bif Nat.beq mi 283 then 1 else 0) else (bif Nat.ble mi 284 then (bif Nat.beq mi 284 then 1 else 0) else (bif Nat.beq mi 285 then 2 else 0)))
def mw_na_4_3 (mi : Nat) : Nat := bif Nat.ble mi 280 then (mw_na_4_3_0 mi) else (mw_na_4_3_1 mi)
def mw_na_4_4_0 (mi : Nat) : Nat := bif Nat.ble mi 287 then (bif Nat.ble mi 286 then (bif Nat.beq mi 286 then 1 else 0) else (bif Nat.beq mi 287 then 1 else 0)) else (bif Nat.ble mi 288 then (bif Nat.beq mi 288 then 5 else 0) else (bif Nat.ble mi 289 then (bif Nat.beq mi 289 then 3 else 0) else (bif Nat.beq mi 290 then 1 else 0)))
def mw_na_4_4_1 (mi : Nat) : Nat := bif Nat.ble mi 292 then (bif Nat.ble mi 291 then (bif Nat.beq mi 291 then 2 else 0) else (bif Nat.beq mi 292 then 1 else 0)) else (bif Nat.ble mi 293 then (bif Nat.beq mi 293 then 1 else 0) else (bif Nat.ble mi 294 then (bif Nat.beq mi 294 then 0 else 0) else (bif Nat.beq mi 295 then 2 else 0)))
def mw_na_4_4 (mi : Nat) : Nat := bif Nat.ble mi 290 then (mw_na_4_4_0 mi) else (mw_na_4_4_1 mi)
def mw_na_4_5_0 (mi : Nat) : Nat := bif Nat.ble mi 297 then (bif Nat.ble mi 296 then (bif Nat.beq mi 296 then 1 else 0) else (bif Nat.beq mi 297 then 0 else 0)) else (bif Nat.ble mi 298 then (bif Nat.beq mi 298 then 1 else 0) else (bif Nat.ble mi 299 then (bif Nat.beq mi 299 then 3 else 0) else (bif Nat.beq mi 300 then 1 else 0)))
def mw_na_4_5_1 (mi : Nat) : Nat := bif Nat.ble mi 303 then (bif Nat.ble mi 301 then (bif Nat.beq mi 301 then 1 else 0) else (bif Nat.ble mi 302 then (bif Nat.beq mi 302 then 1 else 0) else (bif Nat.beq mi 303 then 1 else 0))) else (bif Nat.ble mi 304 then (bif Nat.beq mi 304 then 1 else 0) else (bif Nat.ble mi 305 then (bif Nat.beq mi 305 then 1 else 0) else (bif Nat.beq mi 306 then 1 else 0)))
def mw_na_4_5 (mi : Nat) : Nat := bif Nat.ble mi 300 then (mw_na_4_5_0 mi) else (mw_na_4_5_1 mi)
def mw_na_4 (mi : Nat) : Nat := bif Nat.ble mi 275 then (bif Nat.ble mi 255 then (mw_na_4_0 mi) else (bif Nat.ble mi 265 then (mw_na_4_1 mi) else (mw_na_4_2 mi))) else (bif Nat.ble mi 285 then (mw_na_4_3 mi) else (bif Nat.ble mi 295 then (mw_na_4_4 mi) else (mw_na_4_5 mi)))
def mw_na_5_0_0 (mi : Nat) : Nat := bif Nat.ble mi 308 then (bif Nat.ble mi 307 then (bif Nat.beq mi 307 then 1 else 0) else (bif Nat.beq mi 308 then 1 else 0)) else (bif Nat.ble mi 309 then (bif Nat.beq mi 309 then 1 else 0) else (bif Nat.ble mi 310 then (bif Nat.beq mi 310 then 1 else 0) else (bif Nat.beq mi 311 then 1 else 0)))
def mw_na_5_0_1 (mi : Nat) : Nat := bif Nat.ble mi 313 then (bif Nat.ble mi 312 then (bif Nat.beq mi 312 then 1 else 0) else (bif Nat.beq mi 313 then 1 else 0)) else (bif Nat.ble mi 314 then (bif Nat.beq mi 314 then 0 else 0) else (bif Nat.ble mi 315 then (bif Nat.beq mi 315 then 1 else 0) else (bif Nat.beq mi 316 then 0 else 0)))
def mw_na_5_0 (mi : Nat) : Nat := bif Nat.ble mi 311 then (mw_na_5_0_0 mi) else (mw_na_5_0_1 mi)
def mw_na_5_1_0 (mi : Nat) : Nat := bif Nat.ble mi 318 then (bif Nat.ble mi 317 then (bif Nat.beq mi 317 then 2 else 0) else (bif Nat.beq mi 318 then 1 else 0)) else (bif Nat.ble mi 319 then (bif Nat.beq mi 319 then 0 else 0) else (bif Nat.ble mi 320 then (bif Nat.beq mi 320 then 1 else 0) else (bif Nat.beq mi 321 then 0 else 0)))
def mw_na_5_1_1 (mi : Nat) : Nat := bif Nat.ble mi 323 then (bif Nat.ble mi 322 then (bif Nat.beq mi 322 then 2 else 0) else (bif Nat.beq mi 323 then 3 else 0)) else (bif Nat.ble mi 324 then (bif Nat.beq mi 324 then 2 else 0) else (bif Nat.ble mi 325 then (bif Nat.beq mi 325 then 1 else 0) else (bif Nat.beq mi 326 then 1 else 0)))
def mw_na_5_1 (mi : Nat) : Nat := bif Nat.ble mi 321 then (mw_na_5_1_0 mi) else (mw_na_5_1_1 mi)
def mw_na_5_2_0 (mi : Nat) : Nat := bif Nat.ble mi 328 then (bif Nat.ble mi 327 then (bif Nat.beq mi 327 then 1 else 0) else (bif Nat.beq mi 328 then 1 else 0)) else (bif Nat.ble mi 329 then (bif Nat.beq mi 329 then 2 else 0) else (bif Nat.ble mi 330 then (bif Nat.beq mi 330 then 1 else 0) else (bif Nat.beq mi 331 then 2 else 0)))
def mw_na_5_2_1 (mi : Nat) : Nat := bif Nat.ble mi 334 then (bif Nat.ble mi 332 then (bif Nat.beq mi 332 then 1 else 0) else (bif Nat.ble mi 333 then (bif Nat.beq mi 333 then 3 else 0) else (bif Nat.beq mi 334 then 2 else 0))) else (bif Nat.ble mi 335 then (bif Nat.beq mi 335 then 2 else 0) else (bif Nat.ble mi 336 then (bif Nat.beq mi 336 then 2 else 0) else (bif Nat.beq mi 337 then 4 else 0)))
def mw_na_5_2 (mi : Nat) : Nat := bif Nat.ble mi 331 then (mw_na_5_2_0 mi) else (mw_na_5_2_1 mi)
def mw_na_5_3_0 (mi : Nat) : Nat := bif Nat.ble mi 339 then (bif Nat.ble mi 338 then (bif Nat.beq mi 338 then 1 else 0) else (bif Nat.beq mi 339 then 1 else 0)) else (bif Nat.ble mi 340 then (bif Nat.beq mi 340 then 1 else 0) else (bif Nat.ble mi 341 then (bif Nat.beq mi 341 then 2 else 0) else (bif Nat.beq mi 342 then 3 else 0)))
def mw_na_5_3_1 (mi : Nat) : Nat := bif Nat.ble mi 344 then (bif Nat.ble mi 343 then (bif Nat.beq mi 343 then 2 else 0) else (bif Nat.beq mi 344 then 3 else 0)) else (bif Nat.ble mi 345 then (bif Nat.beq mi 345 then 3 else 0) else (bif Nat.ble mi 346 then (bif Nat.beq mi 346 then 1 else 0) else (bif Nat.beq mi 347 then 0 else 0)))
def mw_na_5_3 (mi : Nat) : Nat := bif Nat.ble mi 342 then (mw_na_5_3_0 mi) else (mw_na_5_3_1 mi)
def mw_na_5_4_0 (mi : Nat) : Nat := bif Nat.ble mi 349 then (bif Nat.ble mi 348 then (bif Nat.beq mi 348 then 0 else 0) else (bif Nat.beq mi 349 then 0 else 0)) else (bif Nat.ble mi 350 then (bif Nat.beq mi 350 then 1 else 0) else (bif Nat.ble mi 351 then (bif Nat.beq mi 351 then 1 else 0) else (bif Nat.beq mi 352 then 2 else 0)))
def mw_na_5_4_1 (mi : Nat) : Nat := bif Nat.ble mi 354 then (bif Nat.ble mi 353 then (bif Nat.beq mi 353 then 1 else 0) else (bif Nat.beq mi 354 then 1 else 0)) else (bif Nat.ble mi 355 then (bif Nat.beq mi 355 then 0 else 0) else (bif Nat.ble mi 356 then (bif Nat.beq mi 356 then 2 else 0) else (bif Nat.beq mi 357 then 2 else 0)))
def mw_na_5_4 (mi : Nat) : Nat := bif Nat.ble mi 352 then (mw_na_5_4_0 mi) else (mw_na_5_4_1 mi)
def mw_na_5_5_0 (mi : Nat) : Nat := bif Nat.ble mi 359 then (bif Nat.ble mi 358 then (bif Nat.beq mi 358 then 2 else 0) else (bif Nat.beq mi 359 then 3 else 0)) else (bif Nat.ble mi 360 then (bif Nat.beq mi 360 then 2 else 0) else (bif Nat.ble mi 361 then (bif Nat.beq mi 361 then 2 else 0) else (bif Nat.beq mi 362 then 2 else 0)))
def mw_na_5_5_1 (mi : Nat) : Nat := bif Nat.ble mi 365 then (bif Nat.ble mi 363 then (bif Nat.beq mi 363 then 2 else 0) else (bif Nat.ble mi 364 then (bif Nat.beq mi 364 then 1 else 0) else (bif Nat.beq mi 365 then 1 else 0))) else (bif Nat.ble mi 366 then (bif Nat.beq mi 366 then 2 else 0) else (bif Nat.ble mi 367 then (bif Nat.beq mi 367 then 2 else 0) else (bif Nat.beq mi 368 then 2 else 0)))
def mw_na_5_5 (mi : Nat) : Nat := bif Nat.ble mi 362 then (mw_na_5_5_0 mi) else (mw_na_5_5_1 mi)
def mw_na_5 (mi : Nat) : Nat := bif Nat.ble mi 337 then (bif Nat.ble mi 316 then (mw_na_5_0 mi) else (bif Nat.ble mi 326 then (mw_na_5_1 mi) else (mw_na_5_2 mi))) else (bif Nat.ble mi 347 then (mw_na_5_3 mi) else (bif Nat.ble mi 357 then (mw_na_5_4 mi) else (mw_na_5_5 mi)))
def mw_na (mi : Nat) : Nat := bif Nat.ble mi 183 then (bif Nat.ble mi 60 then (mw_na_0 mi) else (bif Nat.ble mi 122 then (mw_na_1 mi) else (mw_na_2 mi))) else (bif Nat.ble mi 245 then (mw_na_3 mi) else (bif Nat.ble mi 306 then (mw_na_4 mi) else (mw_na_5 mi)))
def mw_sta_0_0_0 (mi : Nat) : Bool := bif Nat.ble mi 1 then (bif Nat.ble mi 0 then (bif Nat.beq mi 0 then true else false) else (bif Nat.beq mi 1 then true else false)) else (bif Nat.ble mi 2 then (bif Nat.beq mi 2 then true else false) else (bif Nat.ble mi 3 then (bif Nat.beq mi 3 then true else false) else (bif Nat.beq mi 4 then true else false)))
def mw_sta_0_0_1 (mi : Nat) : Bool := bif Nat.ble mi 6 then (bif Nat.ble mi 5 then (bif Nat.beq mi 5 then true else false) else (bif Nat.beq mi 6 then true else false)) else (bif Nat.ble mi 7 then (bif Nat.beq mi 7 then false else false) else (bif Nat.ble mi 8 then (bif Nat.beq mi 8 then false else false) else (bif Nat.beq mi 9 then false else false)))
def mw_sta_0_0 (mi : Nat) : Bool := bif Nat.ble mi 4 then (mw_sta_0_0_0 mi) else (mw_sta_0_0_1 mi)
def mw_sta_0_1_0 (mi : Nat) : Bool := bif Nat.ble mi 11 then (bif Nat.ble mi 10 then (bif Nat.beq mi 10 then false else false) else (bif Nat.beq mi 11 then false else false)) else (bif Nat.ble mi 12 then (bif Nat.beq mi 12 then false else false) else (bif Nat.ble mi 13 then (bif Nat.beq mi 13 then false else false) else (bif Nat.beq mi 14 then false else false)))
def mw_sta_0_1_1 (mi : Nat) : Bool := bif Nat.ble mi 16 then (bif Nat.ble mi 15 then (bif Nat.beq mi 15 then false else false) else (bif Nat.beq mi 16 then false else false)) else (bif Nat.ble mi 17 then (bif Nat.beq mi 17 then false else false) else (bif Nat.ble mi 18 then (bif Nat.beq mi 18 then false else false) else (bif Nat.beq mi 19 then false else false)))
def mw_sta_0_1 (mi : Nat) : Bool := bif Nat.ble mi 14 then (mw_sta_0_1_0 mi) else (mw_sta_0_1_1 mi)
def mw_sta_0_2_0 (mi : Nat) : Bool := bif Nat.ble mi 21 then (bif Nat.ble mi 20 then (bif Nat.beq mi 20 then false else false) else (bif Nat.beq mi 21 then false else false)) else (bif Nat.ble mi 22 then (bif Nat.beq mi 22 then false else false) else (bif Nat.ble mi 23 then (bif Nat.beq mi 23 then false else false) else (bif Nat.beq mi 24 then false else false)))
def mw_sta_0_2_1 (mi : Nat) : Bool := bif Nat.ble mi 26 then (bif Nat.ble mi 25 then (bif Nat.beq mi 25 then false else false) else (bif Nat.beq mi 26 then false else false)) else (bif Nat.ble mi 27 then (bif Nat.beq mi 27 then false else false) else (bif Nat.ble mi 28 then (bif Nat.beq mi 28 then true else false) else (bif Nat.beq mi 29 then false else false)))
def mw_sta_0_2 (mi : Nat) : Bool := bif Nat.ble mi 24 then (mw_sta_0_2_0 mi) else (mw_sta_0_2_1 mi)
def mw_sta_0_3_0 (mi : Nat) : Bool := bif Nat.ble mi 31 then (bif Nat.ble mi 30 then (bif Nat.beq mi 30 then false else false) else (bif Nat.beq mi 31 then false else false)) else (bif Nat.ble mi 32 then (bif Nat.beq mi 32 then false else false) else (bif Nat.ble mi 33 then (bif Nat.beq mi 33 then false else false) else (bif Nat.beq mi 34 then false else false)))
def mw_sta_0_3_1 (mi : Nat) : Bool := bif Nat.ble mi 36 then (bif Nat.ble mi 35 then (bif Nat.beq mi 35 then false else false) else (bif Nat.beq mi 36 then false else false)) else (bif Nat.ble mi 37 then (bif Nat.beq mi 37 then false else false) else (bif Nat.ble mi 38 then (bif Nat.beq mi 38 then false else false) else (bif Nat.beq mi 39 then false else false)))
def mw_sta_0_3 (mi : Nat) : Bool := bif Nat.ble mi 34 then (mw_sta_0_3_0 mi) else (mw_sta_0_3_1 mi)
def mw_sta_0_4_0 (mi : Nat) : Bool := bif Nat.ble mi 41 then (bif Nat.ble mi 40 then (bif Nat.beq mi 40 then false else false) else (bif Nat.beq mi 41 then false else false)) else (bif Nat.ble mi 42 then (bif Nat.beq mi 42 then false else false) else (bif Nat.ble mi 43 then (bif Nat.beq mi 43 then false else false) else (bif Nat.beq mi 44 then false else false)))
def mw_sta_0_4_1 (mi : Nat) : Bool := bif Nat.ble mi 46 then (bif Nat.ble mi 45 then (bif Nat.beq mi 45 then false else false) else (bif Nat.beq mi 46 then false else false)) else (bif Nat.ble mi 47 then (bif Nat.beq mi 47 then false else false) else (bif Nat.ble mi 48 then (bif Nat.beq mi 48 then false else false) else (bif Nat.beq mi 49 then false else false)))
def mw_sta_0_4 (mi : Nat) : Bool := bif Nat.ble mi 44 then (mw_sta_0_4_0 mi) else (mw_sta_0_4_1 mi)
def mw_sta_0_5_0 (mi : Nat) : Bool := bif Nat.ble mi 51 then (bif Nat.ble mi 50 then (bif Nat.beq mi 50 then false else false) else (bif Nat.beq mi 51 then false else false)) else (bif Nat.ble mi 52 then (bif Nat.beq mi 52 then false else false) else (bif Nat.ble mi 53 then (bif Nat.beq mi 53 then false else false) else (bif Nat.beq mi 54 then false else false)))
def mw_sta_0_5_1 (mi : Nat) : Bool := bif Nat.ble mi 57 then (bif Nat.ble mi 55 then (bif Nat.beq mi 55 then false else false) else (bif Nat.ble mi 56 then (bif Nat.beq mi 56 then false else false) else (bif Nat.beq mi 57 then true else false))) else (bif Nat.ble mi 58 then (bif Nat.beq mi 58 then true else false) else (bif Nat.ble mi 59 then (bif Nat.beq mi 59 then false else false) else (bif Nat.beq mi 60 then false else false)))
def mw_sta_0_5 (mi : Nat) : Bool := bif Nat.ble mi 54 then (mw_sta_0_5_0 mi) else (mw_sta_0_5_1 mi)
def mw_sta_0 (mi : Nat) : Bool := bif Nat.ble mi 29 then (bif Nat.ble mi 9 then (mw_sta_0_0 mi) else (bif Nat.ble mi 19 then (mw_sta_0_1 mi) else (mw_sta_0_2 mi))) else (bif Nat.ble mi 39 then (mw_sta_0_3 mi) else (bif Nat.ble mi 49 then (mw_sta_0_4 mi) else (mw_sta_0_5 mi)))
def mw_sta_1_0_0 (mi : Nat) : Bool := bif Nat.ble mi 62 then (bif Nat.ble mi 61 then (bif Nat.beq mi 61 then false else false) else (bif Nat.beq mi 62 then false else false)) else (bif Nat.ble mi 63 then (bif Nat.beq mi 63 then false else false) else (bif Nat.ble mi 64 then (bif Nat.beq mi 64 then false else false) else (bif Nat.beq mi 65 then false else false)))
def mw_sta_1_0_1 (mi : Nat) : Bool := bif Nat.ble mi 67 then (bif Nat.ble mi 66 then (bif Nat.beq mi 66 then false else false) else (bif Nat.beq mi 67 then false else false)) else (bif Nat.ble mi 68 then (bif Nat.beq mi 68 then false else false) else (bif Nat.ble mi 69 then (bif Nat.beq mi 69 then false else false) else (bif Nat.beq mi 70 then false else false)))
def mw_sta_1_0 (mi : Nat) : Bool := bif Nat.ble mi 65 then (mw_sta_1_0_0 mi) else (mw_sta_1_0_1 mi)
def mw_sta_1_1_0 (mi : Nat) : Bool := bif Nat.ble mi 72 then (bif Nat.ble mi 71 then (bif Nat.beq mi 71 then false else false) else (bif Nat.beq mi 72 then false else false)) else (bif Nat.ble mi 73 then (bif Nat.beq mi 73 then false else false) else (bif Nat.ble mi 74 then (bif Nat.beq mi 74 then false else false) else (bif Nat.beq mi 75 then false else false)))
def mw_sta_1_1_1 (mi : Nat) : Bool := bif Nat.ble mi 77 then (bif Nat.ble mi 76 then (bif Nat.beq mi 76 then false else false) else (bif Nat.beq mi 77 then false else false)) else (bif Nat.ble mi 78 then (bif Nat.beq mi 78 then false else false) else (bif Nat.ble mi 79 then (bif Nat.beq mi 79 then false else false) else (bif Nat.beq mi 80 then false else false)))
def mw_sta_1_1 (mi : Nat) : Bool := bif Nat.ble mi 75 then (mw_sta_1_1_0 mi) else (mw_sta_1_1_1 mi)
def mw_sta_1_2_0 (mi : Nat) : Bool := bif Nat.ble mi 82 then (bif Nat.ble mi 81 then (bif Nat.beq mi 81 then false else false) else (bif Nat.beq mi 82 then false else false)) else (bif Nat.ble mi 83 then (bif Nat.beq mi 83 then false else false) else (bif Nat.ble mi 84 then (bif Nat.beq mi 84 then false else false) else (bif Nat.beq mi 85 then false else false)))
def mw_sta_1_2_1 (mi : Nat) : Bool := bif Nat.ble mi 88 then (bif Nat.ble mi 86 then (bif Nat.beq mi 86 then false else false) else (bif Nat.ble mi 87 then (bif Nat.beq mi 87 then false else false) else (bif Nat.beq mi 88 then false else false))) else (bif Nat.ble mi 89 then (bif Nat.beq mi 89 then false else false) else (bif Nat.ble mi 90 then (bif Nat.beq mi 90 then true else false) else (bif Nat.beq mi 91 then false else false)))
def mw_sta_1_2 (mi : Nat) : Bool := bif Nat.ble mi 85 then (mw_sta_1_2_0 mi) else (mw_sta_1_2_1 mi)
def mw_sta_1_3_0 (mi : Nat) : Bool := bif Nat.ble mi 93 then (bif Nat.ble mi 92 then (bif Nat.beq mi 92 then false else false) else (bif Nat.beq mi 93 then false else false)) else (bif Nat.ble mi 94 then (bif Nat.beq mi 94 then false else false) else (bif Nat.ble mi 95 then (bif Nat.beq mi 95 then false else false) else (bif Nat.beq mi 96 then false else false)))
def mw_sta_1_3_1 (mi : Nat) : Bool := bif Nat.ble mi 98 then (bif Nat.ble mi 97 then (bif Nat.beq mi 97 then false else false) else (bif Nat.beq mi 98 then false else false)) else (bif Nat.ble mi 99 then (bif Nat.beq mi 99 then false else false) else (bif Nat.ble mi 100 then (bif Nat.beq mi 100 then false else false) else (bif Nat.beq mi 101 then false else false)))
def mw_sta_1_3 (mi : Nat) : Bool := bif Nat.ble mi 96 then (mw_sta_1_3_0 mi) else (mw_sta_1_3_1 mi)
def mw_sta_1_4_0 (mi : Nat) : Bool := bif Nat.ble mi 103 then (bif Nat.ble mi 102 then (bif Nat.beq mi 102 then true else false) else (bif Nat.beq mi 103 then false else false)) else (bif Nat.ble mi 104 then (bif Nat.beq mi 104 then true else false) else (bif Nat.ble mi 105 then (bif Nat.beq mi 105 then false else false) else (bif Nat.beq mi 106 then false else false)))
def mw_sta_1_4_1 (mi : Nat) : Bool := bif Nat.ble mi 108 then (bif Nat.ble mi 107 then (bif Nat.beq mi 107 then false else false) else (bif Nat.beq mi 108 then false else false)) else (bif Nat.ble mi 109 then (bif Nat.beq mi 109 then false else false) else (bif Nat.ble mi 110 then (bif Nat.beq mi 110 then false else false) else (bif Nat.beq mi 111 then false else false)))
def mw_sta_1_4 (mi : Nat) : Bool := bif Nat.ble mi 106 then (mw_sta_1_4_0 mi) else (mw_sta_1_4_1 mi)
def mw_sta_1_5_0 (mi : Nat) : Bool := bif Nat.ble mi 113 then (bif Nat.ble mi 112 then (bif Nat.beq mi 112 then false else false) else (bif Nat.beq mi 113 then false else false)) else (bif Nat.ble mi 114 then (bif Nat.beq mi 114 then false else false) else (bif Nat.ble mi 115 then (bif Nat.beq mi 115 then false else false) else (bif Nat.beq mi 116 then false else false)))
def mw_sta_1_5_1 (mi : Nat) : Bool := bif Nat.ble mi 119 then (bif Nat.ble mi 117 then (bif Nat.beq mi 117 then false else false) else (bif Nat.ble mi 118 then (bif Nat.beq mi 118 then false else false) else (bif Nat.beq mi 119 then false else false))) else (bif Nat.ble mi 120 then (bif Nat.beq mi 120 then false else false) else (bif Nat.ble mi 121 then (bif Nat.beq mi 121 then false else false) else (bif Nat.beq mi 122 then false else false)))
def mw_sta_1_5 (mi : Nat) : Bool := bif Nat.ble mi 116 then (mw_sta_1_5_0 mi) else (mw_sta_1_5_1 mi)
def mw_sta_1 (mi : Nat) : Bool := bif Nat.ble mi 91 then (bif Nat.ble mi 70 then (mw_sta_1_0 mi) else (bif Nat.ble mi 80 then (mw_sta_1_1 mi) else (mw_sta_1_2 mi))) else (bif Nat.ble mi 101 then (mw_sta_1_3 mi) else (bif Nat.ble mi 111 then (mw_sta_1_4 mi) else (mw_sta_1_5 mi)))
def mw_sta_2_0_0 (mi : Nat) : Bool := bif Nat.ble mi 124 then (bif Nat.ble mi 123 then (bif Nat.beq mi 123 then false else false) else (bif Nat.beq mi 124 then false else false)) else (bif Nat.ble mi 125 then (bif Nat.beq mi 125 then false else false) else (bif Nat.ble mi 126 then (bif Nat.beq mi 126 then false else false) else (bif Nat.beq mi 127 then false else false)))
def mw_sta_2_0_1 (mi : Nat) : Bool := bif Nat.ble mi 129 then (bif Nat.ble mi 128 then (bif Nat.beq mi 128 then false else false) else (bif Nat.beq mi 129 then false else false)) else (bif Nat.ble mi 130 then (bif Nat.beq mi 130 then false else false) else (bif Nat.ble mi 131 then (bif Nat.beq mi 131 then false else false) else (bif Nat.beq mi 132 then false else false)))
def mw_sta_2_0 (mi : Nat) : Bool := bif Nat.ble mi 127 then (mw_sta_2_0_0 mi) else (mw_sta_2_0_1 mi)
def mw_sta_2_1_0 (mi : Nat) : Bool := bif Nat.ble mi 134 then (bif Nat.ble mi 133 then (bif Nat.beq mi 133 then true else false) else (bif Nat.beq mi 134 then false else false)) else (bif Nat.ble mi 135 then (bif Nat.beq mi 135 then false else false) else (bif Nat.ble mi 136 then (bif Nat.beq mi 136 then false else false) else (bif Nat.beq mi 137 then false else false)))
def mw_sta_2_1_1 (mi : Nat) : Bool := bif Nat.ble mi 139 then (bif Nat.ble mi 138 then (bif Nat.beq mi 138 then false else false) else (bif Nat.beq mi 139 then false else false)) else (bif Nat.ble mi 140 then (bif Nat.beq mi 140 then false else false) else (bif Nat.ble mi 141 then (bif Nat.beq mi 141 then false else false) else (bif Nat.beq mi 142 then false else false)))
def mw_sta_2_1 (mi : Nat) : Bool := bif Nat.ble mi 137 then (mw_sta_2_1_0 mi) else (mw_sta_2_1_1 mi)
def mw_sta_2_2_0 (mi : Nat) : Bool := bif Nat.ble mi 144 then (bif Nat.ble mi 143 then (bif Nat.beq mi 143 then false else false) else (bif Nat.beq mi 144 then false else false)) else (bif Nat.ble mi 145 then (bif Nat.beq mi 145 then false else false) else (bif Nat.ble mi 146 then (bif Nat.beq mi 146 then false else false) else (bif Nat.beq mi 147 then false else false)))
def mw_sta_2_2_1 (mi : Nat) : Bool := bif Nat.ble mi 149 then (bif Nat.ble mi 148 then (bif Nat.beq mi 148 then false else false) else (bif Nat.beq mi 149 then false else false)) else (bif Nat.ble mi 150 then (bif Nat.beq mi 150 then false else false) else (bif Nat.ble mi 151 then (bif Nat.beq mi 151 then false else false) else (bif Nat.beq mi 152 then false else false)))
def mw_sta_2_2 (mi : Nat) : Bool := bif Nat.ble mi 147 then (mw_sta_2_2_0 mi) else (mw_sta_2_2_1 mi)
def mw_sta_2_3_0 (mi : Nat) : Bool := bif Nat.ble mi 154 then (bif Nat.ble mi 153 then (bif Nat.beq mi 153 then false else false) else (bif Nat.beq mi 154 then false else false)) else (bif Nat.ble mi 155 then (bif Nat.beq mi 155 then false else false) else (bif Nat.ble mi 156 then (bif Nat.beq mi 156 then false else false) else (bif Nat.beq mi 157 then false else false)))
def mw_sta_2_3_1 (mi : Nat) : Bool := bif Nat.ble mi 159 then (bif Nat.ble mi 158 then (bif Nat.beq mi 158 then false else false) else (bif Nat.beq mi 159 then false else false)) else (bif Nat.ble mi 160 then (bif Nat.beq mi 160 then false else false) else (bif Nat.ble mi 161 then (bif Nat.beq mi 161 then false else false) else (bif Nat.beq mi 162 then false else false)))
def mw_sta_2_3 (mi : Nat) : Bool := bif Nat.ble mi 157 then (mw_sta_2_3_0 mi) else (mw_sta_2_3_1 mi)
def mw_sta_2_4_0 (mi : Nat) : Bool := bif Nat.ble mi 164 then (bif Nat.ble mi 163 then (bif Nat.beq mi 163 then false else false) else (bif Nat.beq mi 164 then false else false)) else (bif Nat.ble mi 165 then (bif Nat.beq mi 165 then false else false) else (bif Nat.ble mi 166 then (bif Nat.beq mi 166 then false else false) else (bif Nat.beq mi 167 then false else false)))
def mw_sta_2_4_1 (mi : Nat) : Bool := bif Nat.ble mi 169 then (bif Nat.ble mi 168 then (bif Nat.beq mi 168 then false else false) else (bif Nat.beq mi 169 then false else false)) else (bif Nat.ble mi 170 then (bif Nat.beq mi 170 then false else false) else (bif Nat.ble mi 171 then (bif Nat.beq mi 171 then false else false) else (bif Nat.beq mi 172 then false else false)))
def mw_sta_2_4 (mi : Nat) : Bool := bif Nat.ble mi 167 then (mw_sta_2_4_0 mi) else (mw_sta_2_4_1 mi)
def mw_sta_2_5_0 (mi : Nat) : Bool := bif Nat.ble mi 174 then (bif Nat.ble mi 173 then (bif Nat.beq mi 173 then false else false) else (bif Nat.beq mi 174 then false else false)) else (bif Nat.ble mi 175 then (bif Nat.beq mi 175 then false else false) else (bif Nat.ble mi 176 then (bif Nat.beq mi 176 then false else false) else (bif Nat.beq mi 177 then false else false)))
def mw_sta_2_5_1 (mi : Nat) : Bool := bif Nat.ble mi 180 then (bif Nat.ble mi 178 then (bif Nat.beq mi 178 then false else false) else (bif Nat.ble mi 179 then (bif Nat.beq mi 179 then false else false) else (bif Nat.beq mi 180 then false else false))) else (bif Nat.ble mi 181 then (bif Nat.beq mi 181 then false else false) else (bif Nat.ble mi 182 then (bif Nat.beq mi 182 then false else false) else (bif Nat.beq mi 183 then false else false)))
def mw_sta_2_5 (mi : Nat) : Bool := bif Nat.ble mi 177 then (mw_sta_2_5_0 mi) else (mw_sta_2_5_1 mi)
def mw_sta_2 (mi : Nat) : Bool := bif Nat.ble mi 152 then (bif Nat.ble mi 132 then (mw_sta_2_0 mi) else (bif Nat.ble mi 142 then (mw_sta_2_1 mi) else (mw_sta_2_2 mi))) else (bif Nat.ble mi 162 then (mw_sta_2_3 mi) else (bif Nat.ble mi 172 then (mw_sta_2_4 mi) else (mw_sta_2_5 mi)))
def mw_sta_3_0_0 (mi : Nat) : Bool := bif Nat.ble mi 185 then (bif Nat.ble mi 184 then (bif Nat.beq mi 184 then false else false) else (bif Nat.beq mi 185 then false else false)) else (bif Nat.ble mi 186 then (bif Nat.beq mi 186 then false else false) else (bif Nat.ble mi 187 then (bif Nat.beq mi 187 then false else false) else (bif Nat.beq mi 188 then false else false)))
def mw_sta_3_0_1 (mi : Nat) : Bool := bif Nat.ble mi 190 then (bif Nat.ble mi 189 then (bif Nat.beq mi 189 then false else false) else (bif Nat.beq mi 190 then false else false)) else (bif Nat.ble mi 191 then (bif Nat.beq mi 191 then false else false) else (bif Nat.ble mi 192 then (bif Nat.beq mi 192 then false else false) else (bif Nat.beq mi 193 then false else false)))
def mw_sta_3_0 (mi : Nat) : Bool := bif Nat.ble mi 188 then (mw_sta_3_0_0 mi) else (mw_sta_3_0_1 mi)
def mw_sta_3_1_0 (mi : Nat) : Bool := bif Nat.ble mi 195 then (bif Nat.ble mi 194 then (bif Nat.beq mi 194 then false else false) else (bif Nat.beq mi 195 then false else false)) else (bif Nat.ble mi 196 then (bif Nat.beq mi 196 then false else false) else (bif Nat.ble mi 197 then (bif Nat.beq mi 197 then false else false) else (bif Nat.beq mi 198 then false else false)))
def mw_sta_3_1_1 (mi : Nat) : Bool := bif Nat.ble mi 200 then (bif Nat.ble mi 199 then (bif Nat.beq mi 199 then true else false) else (bif Nat.beq mi 200 then true else false)) else (bif Nat.ble mi 201 then (bif Nat.beq mi 201 then false else false) else (bif Nat.ble mi 202 then (bif Nat.beq mi 202 then false else false) else (bif Nat.beq mi 203 then false else false)))
def mw_sta_3_1 (mi : Nat) : Bool := bif Nat.ble mi 198 then (mw_sta_3_1_0 mi) else (mw_sta_3_1_1 mi)
def mw_sta_3_2_0 (mi : Nat) : Bool := bif Nat.ble mi 205 then (bif Nat.ble mi 204 then (bif Nat.beq mi 204 then false else false) else (bif Nat.beq mi 205 then false else false)) else (bif Nat.ble mi 206 then (bif Nat.beq mi 206 then false else false) else (bif Nat.ble mi 207 then (bif Nat.beq mi 207 then true else false) else (bif Nat.beq mi 208 then true else false)))
def mw_sta_3_2_1 (mi : Nat) : Bool := bif Nat.ble mi 211 then (bif Nat.ble mi 209 then (bif Nat.beq mi 209 then true else false) else (bif Nat.ble mi 210 then (bif Nat.beq mi 210 then true else false) else (bif Nat.beq mi 211 then false else false))) else (bif Nat.ble mi 212 then (bif Nat.beq mi 212 then false else false) else (bif Nat.ble mi 213 then (bif Nat.beq mi 213 then false else false) else (bif Nat.beq mi 214 then true else false)))
def mw_sta_3_2 (mi : Nat) : Bool := bif Nat.ble mi 208 then (mw_sta_3_2_0 mi) else (mw_sta_3_2_1 mi)
def mw_sta_3_3_0 (mi : Nat) : Bool := bif Nat.ble mi 216 then (bif Nat.ble mi 215 then (bif Nat.beq mi 215 then false else false) else (bif Nat.beq mi 216 then false else false)) else (bif Nat.ble mi 217 then (bif Nat.beq mi 217 then false else false) else (bif Nat.ble mi 218 then (bif Nat.beq mi 218 then true else false) else (bif Nat.beq mi 219 then false else false)))
def mw_sta_3_3_1 (mi : Nat) : Bool := bif Nat.ble mi 221 then (bif Nat.ble mi 220 then (bif Nat.beq mi 220 then false else false) else (bif Nat.beq mi 221 then false else false)) else (bif Nat.ble mi 222 then (bif Nat.beq mi 222 then false else false) else (bif Nat.ble mi 223 then (bif Nat.beq mi 223 then false else false) else (bif Nat.beq mi 224 then false else false)))
def mw_sta_3_3 (mi : Nat) : Bool := bif Nat.ble mi 219 then (mw_sta_3_3_0 mi) else (mw_sta_3_3_1 mi)
def mw_sta_3_4_0 (mi : Nat) : Bool := bif Nat.ble mi 226 then (bif Nat.ble mi 225 then (bif Nat.beq mi 225 then false else false) else (bif Nat.beq mi 226 then false else false)) else (bif Nat.ble mi 227 then (bif Nat.beq mi 227 then false else false) else (bif Nat.ble mi 228 then (bif Nat.beq mi 228 then false else false) else (bif Nat.beq mi 229 then false else false)))
def mw_sta_3_4_1 (mi : Nat) : Bool := bif Nat.ble mi 231 then (bif Nat.ble mi 230 then (bif Nat.beq mi 230 then false else false) else (bif Nat.beq mi 231 then false else false)) else (bif Nat.ble mi 232 then (bif Nat.beq mi 232 then false else false) else (bif Nat.ble mi 233 then (bif Nat.beq mi 233 then true else false) else (bif Nat.beq mi 234 then true else false)))
def mw_sta_3_4 (mi : Nat) : Bool := bif Nat.ble mi 229 then (mw_sta_3_4_0 mi) else (mw_sta_3_4_1 mi)
def mw_sta_3_5_0 (mi : Nat) : Bool := bif Nat.ble mi 236 then (bif Nat.ble mi 235 then (bif Nat.beq mi 235 then true else false) else (bif Nat.beq mi 236 then true else false)) else (bif Nat.ble mi 237 then (bif Nat.beq mi 237 then false else false) else (bif Nat.ble mi 238 then (bif Nat.beq mi 238 then false else false) else (bif Nat.beq mi 239 then false else false)))
def mw_sta_3_5_1 (mi : Nat) : Bool := bif Nat.ble mi 242 then (bif Nat.ble mi 240 then (bif Nat.beq mi 240 then false else false) else (bif Nat.ble mi 241 then (bif Nat.beq mi 241 then false else false) else (bif Nat.beq mi 242 then false else false))) else (bif Nat.ble mi 243 then (bif Nat.beq mi 243 then false else false) else (bif Nat.ble mi 244 then (bif Nat.beq mi 244 then false else false) else (bif Nat.beq mi 245 then false else false)))
def mw_sta_3_5 (mi : Nat) : Bool := bif Nat.ble mi 239 then (mw_sta_3_5_0 mi) else (mw_sta_3_5_1 mi)
def mw_sta_3 (mi : Nat) : Bool := bif Nat.ble mi 214 then (bif Nat.ble mi 193 then (mw_sta_3_0 mi) else (bif Nat.ble mi 203 then (mw_sta_3_1 mi) else (mw_sta_3_2 mi))) else (bif Nat.ble mi 224 then (mw_sta_3_3 mi) else (bif Nat.ble mi 234 then (mw_sta_3_4 mi) else (mw_sta_3_5 mi)))
def mw_sta_4_0_0 (mi : Nat) : Bool := bif Nat.ble mi 247 then (bif Nat.ble mi 246 then (bif Nat.beq mi 246 then false else false) else (bif Nat.beq mi 247 then false else false)) else (bif Nat.ble mi 248 then (bif Nat.beq mi 248 then false else false) else (bif Nat.ble mi 249 then (bif Nat.beq mi 249 then false else false) else (bif Nat.beq mi 250 then false else false)))
def mw_sta_4_0_1 (mi : Nat) : Bool := bif Nat.ble mi 252 then (bif Nat.ble mi 251 then (bif Nat.beq mi 251 then false else false) else (bif Nat.beq mi 252 then false else false)) else (bif Nat.ble mi 253 then (bif Nat.beq mi 253 then false else false) else (bif Nat.ble mi 254 then (bif Nat.beq mi 254 then false else false) else (bif Nat.beq mi 255 then false else false)))
def mw_sta_4_0 (mi : Nat) : Bool := bif Nat.ble mi 250 then (mw_sta_4_0_0 mi) else (mw_sta_4_0_1 mi)
def mw_sta_4_1_0 (mi : Nat) : Bool := bif Nat.ble mi 257 then (bif Nat.ble mi 256 then (bif Nat.beq mi 256 then false else false) else (bif Nat.beq mi 257 then false else false)) else (bif Nat.ble mi 258 then (bif Nat.beq mi 258 then false else false) else (bif Nat.ble mi 259 then (bif Nat.beq mi 259 then false else false) else (bif Nat.beq mi 260 then false else false)))
def mw_sta_4_1_1 (mi : Nat) : Bool := bif Nat.ble mi 262 then (bif Nat.ble mi 261 then (bif Nat.beq mi 261 then false else false) else (bif Nat.beq mi 262 then false else false)) else (bif Nat.ble mi 263 then (bif Nat.beq mi 263 then false else false) else (bif Nat.ble mi 264 then (bif Nat.beq mi 264 then false else false) else (bif Nat.beq mi 265 then false else false)))
def mw_sta_4_1 (mi : Nat) : Bool := bif Nat.ble mi 260 then (mw_sta_4_1_0 mi) else (mw_sta_4_1_1 mi)
def mw_sta_4_2_0 (mi : Nat) : Bool := bif Nat.ble mi 267 then (bif Nat.ble mi 266 then (bif Nat.beq mi 266 then false else false) else (bif Nat.beq mi 267 then true else false)) else (bif Nat.ble mi 268 then (bif Nat.beq mi 268 then false else false) else (bif Nat.ble mi 269 then (bif Nat.beq mi 269 then false else false) else (bif Nat.beq mi 270 then false else false)))
def mw_sta_4_2_1 (mi : Nat) : Bool := bif Nat.ble mi 272 then (bif Nat.ble mi 271 then (bif Nat.beq mi 271 then true else false) else (bif Nat.beq mi 272 then false else false)) else (bif Nat.ble mi 273 then (bif Nat.beq mi 273 then false else false) else (bif Nat.ble mi 274 then (bif Nat.beq mi 274 then false else false) else (bif Nat.beq mi 275 then false else false)))
def mw_sta_4_2 (mi : Nat) : Bool := bif Nat.ble mi 270 then (mw_sta_4_2_0 mi) else (mw_sta_4_2_1 mi)
def mw_sta_4_3_0 (mi : Nat) : Bool := bif Nat.ble mi 277 then (bif Nat.ble mi 276 then (bif Nat.beq mi 276 then false else false) else (bif Nat.beq mi 277 then false else false)) else (bif Nat.ble mi 278 then (bif Nat.beq mi 278 then false else false) else (bif Nat.ble mi 279 then (bif Nat.beq mi 279 then false else false) else (bif Nat.beq mi 280 then false else false)))
def mw_sta_4_3_1 (mi : Nat) : Bool := bif Nat.ble mi 282 then (bif Nat.ble mi 281 then (bif Nat.beq mi 281 then false else false) else (bif Nat.beq mi 282 then false else false)) else (bif Nat.ble mi 283 then (bif Nat.beq mi 283 then false else false) else (bif Nat.ble mi 284 then (bif Nat.beq mi 284 then false else false) else (bif Nat.beq mi 285 then true else false)))
def mw_sta_4_3 (mi : Nat) : Bool := bif Nat.ble mi 280 then (mw_sta_4_3_0 mi) else (mw_sta_4_3_1 mi)
def mw_sta_4_4_0 (mi : Nat) : Bool := bif Nat.ble mi 287 then (bif Nat.ble mi 286 then (bif Nat.beq mi 286 then false else false) else (bif Nat.beq mi 287 then false else false)) else (bif Nat.ble mi 288 then (bif Nat.beq mi 288 then false else false) else (bif Nat.ble mi 289 then (bif Nat.beq mi 289 then false else false) else (bif Nat.beq mi 290 then false else false)))
def mw_sta_4_4_1 (mi : Nat) : Bool := bif Nat.ble mi 292 then (bif Nat.ble mi 291 then (bif Nat.beq mi 291 then false else false) else (bif Nat.beq mi 292 then false else false)) else (bif Nat.ble mi 293 then (bif Nat.beq mi 293 then false else false) else (bif Nat.ble mi 294 then (bif Nat.beq mi 294 then false else false) else (bif Nat.beq mi 295 then false else false)))
def mw_sta_4_4 (mi : Nat) : Bool := bif Nat.ble mi 290 then (mw_sta_4_4_0 mi) else (mw_sta_4_4_1 mi)
def mw_sta_4_5_0 (mi : Nat) : Bool := bif Nat.ble mi 297 then (bif Nat.ble mi 296 then (bif Nat.beq mi 296 then false else false) else (bif Nat.beq mi 297 then false else false)) else (bif Nat.ble mi 298 then (bif Nat.beq mi 298 then false else false) else (bif Nat.ble mi 299 then (bif Nat.beq mi 299 then false else false) else (bif Nat.beq mi 300 then false else false)))
def mw_sta_4_5_1 (mi : Nat) : Bool := bif Nat.ble mi 303 then (bif Nat.ble mi 301 then (bif Nat.beq mi 301 then false else false) else (bif Nat.ble mi 302 then (bif Nat.beq mi 302 then false else false) else (bif Nat.beq mi 303 then false else false))) else (bif Nat.ble mi 304 then (bif Nat.beq mi 304 then false else false) else (bif Nat.ble mi 305 then (bif Nat.beq mi 305 then false else false) else (bif Nat.beq mi 306 then false else false)))
def mw_sta_4_5 (mi : Nat) : Bool := bif Nat.ble mi 300 then (mw_sta_4_5_0 mi) else (mw_sta_4_5_1 mi)
def mw_sta_4 (mi : Nat) : Bool := bif Nat.ble mi 275 then (bif Nat.ble mi 255 then (mw_sta_4_0 mi) else (bif Nat.ble mi 265 then (mw_sta_4_1 mi) else (mw_sta_4_2 mi))) else (bif Nat.ble mi 285 then (mw_sta_4_3 mi) else (bif Nat.ble mi 295 then (mw_sta_4_4 mi) else (mw_sta_4_5 mi)))
def mw_sta_5_0_0 (mi : Nat) : Bool := bif Nat.ble mi 308 then (bif Nat.ble mi 307 then (bif Nat.beq mi 307 then false else false) else (bif Nat.beq mi 308 then false else false)) else (bif Nat.ble mi 309 then (bif Nat.beq mi 309 then false else false) else (bif Nat.ble mi 310 then (bif Nat.beq mi 310 then false else false) else (bif Nat.beq mi 311 then false else false)))
def mw_sta_5_0_1 (mi : Nat) : Bool := bif Nat.ble mi 313 then (bif Nat.ble mi 312 then (bif Nat.beq mi 312 then false else false) else (bif Nat.beq mi 313 then true else false)) else (bif Nat.ble mi 314 then (bif Nat.beq mi 314 then false else false) else (bif Nat.ble mi 315 then (bif Nat.beq mi 315 then false else false) else (bif Nat.beq mi 316 then false else false)))
def mw_sta_5_0 (mi : Nat) : Bool := bif Nat.ble mi 311 then (mw_sta_5_0_0 mi) else (mw_sta_5_0_1 mi)
def mw_sta_5_1_0 (mi : Nat) : Bool := bif Nat.ble mi 318 then (bif Nat.ble mi 317 then (bif Nat.beq mi 317 then false else false) else (bif Nat.beq mi 318 then false else false)) else (bif Nat.ble mi 319 then (bif Nat.beq mi 319 then false else false) else (bif Nat.ble mi 320 then (bif Nat.beq mi 320 then false else false) else (bif Nat.beq mi 321 then false else false)))
def mw_sta_5_1_1 (mi : Nat) : Bool := bif Nat.ble mi 323 then (bif Nat.ble mi 322 then (bif Nat.beq mi 322 then false else false) else (bif Nat.beq mi 323 then false else false)) else (bif Nat.ble mi 324 then (bif Nat.beq mi 324 then false else false) else (bif Nat.ble mi 325 then (bif Nat.beq mi 325 then false else false) else (bif Nat.beq mi 326 then false else false)))
def mw_sta_5_1 (mi : Nat) : Bool := bif Nat.ble mi 321 then (mw_sta_5_1_0 mi) else (mw_sta_5_1_1 mi)
def mw_sta_5_2_0 (mi : Nat) : Bool := bif Nat.ble mi 328 then (bif Nat.ble mi 327 then (bif Nat.beq mi 327 then false else false) else (bif Nat.beq mi 328 then false else false)) else (bif Nat.ble mi 329 then (bif Nat.beq mi 329 then false else false) else (bif Nat.ble mi 330 then (bif Nat.beq mi 330 then false else false) else (bif Nat.beq mi 331 then false else false)))
def mw_sta_5_2_1 (mi : Nat) : Bool := bif Nat.ble mi 334 then (bif Nat.ble mi 332 then (bif Nat.beq mi 332 then false else false) else (bif Nat.ble mi 333 then (bif Nat.beq mi 333 then false else false) else (bif Nat.beq mi 334 then false else false))) else (bif Nat.ble mi 335 then (bif Nat.beq mi 335 then false else false) else (bif Nat.ble mi 336 then (bif Nat.beq mi 336 then false else false) else (bif Nat.beq mi 337 then false else false)))
def mw_sta_5_2 (mi : Nat) : Bool := bif Nat.ble mi 331 then (mw_sta_5_2_0 mi) else (mw_sta_5_2_1 mi)
def mw_sta_5_3_0 (mi : Nat) : Bool := bif Nat.ble mi 339 then (bif Nat.ble mi 338 then (bif Nat.beq mi 338 then false else false) else (bif Nat.beq mi 339 then false else false)) else (bif Nat.ble mi 340 then (bif Nat.beq mi 340 then false else false) else (bif Nat.ble mi 341 then (bif Nat.beq mi 341 then false else false) else (bif Nat.beq mi 342 then false else false)))
def mw_sta_5_3_1 (mi : Nat) : Bool := bif Nat.ble mi 344 then (bif Nat.ble mi 343 then (bif Nat.beq mi 343 then false else false) else (bif Nat.beq mi 344 then false else false)) else (bif Nat.ble mi 345 then (bif Nat.beq mi 345 then false else false) else (bif Nat.ble mi 346 then (bif Nat.beq mi 346 then false else false) else (bif Nat.beq mi 347 then false else false)))
def mw_sta_5_3 (mi : Nat) : Bool := bif Nat.ble mi 342 then (mw_sta_5_3_0 mi) else (mw_sta_5_3_1 mi)
def mw_sta_5_4_0 (mi : Nat) : Bool := bif Nat.ble mi 349 then (bif Nat.ble mi 348 then (bif Nat.beq mi 348 then false else false) else (bif Nat.beq mi 349 then false else false)) else (bif Nat.ble mi 350 then (bif Nat.beq mi 350 then false else false) else (bif Nat.ble mi 351 then (bif Nat.beq mi 351 then false else false) else (bif Nat.beq mi 352 then false else false)))
def mw_sta_5_4_1 (mi : Nat) : Bool := bif Nat.ble mi 354 then (bif Nat.ble mi 353 then (bif Nat.beq mi 353 then false else false) else (bif Nat.beq mi 354 then false else false)) else (bif Nat.ble mi 355 then (bif Nat.beq mi 355 then false else false) else (bif Nat.ble mi 356 then (bif Nat.beq mi 356 then false else false) else (bif Nat.beq mi 357 then false else false)))
def mw_sta_5_4 (mi : Nat) : Bool := bif Nat.ble mi 352 then (mw_sta_5_4_0 mi) else (mw_sta_5_4_1 mi)
def mw_sta_5_5_0 (mi : Nat) : Bool := bif Nat.ble mi 359 then (bif Nat.ble mi 358 then (bif Nat.beq mi 358 then false else false) else (bif Nat.beq mi 359 then false else false)) else (bif Nat.ble mi 360 then (bif Nat.beq mi 360 then false else false) else (bif Nat.ble mi 361 then (bif Nat.beq mi 361 then false else false) else (bif Nat.beq mi 362 then false else false)))
def mw_sta_5_5_1 (mi : Nat) : Bool := bif Nat.ble mi 365 then (bif Nat.ble mi 363 then (bif Nat.beq mi 363 then false else false) else (bif Nat.ble mi 364 then (bif Nat.beq mi 364 then false else false) else (bif Nat.beq mi 365 then false else false))) else (bif Nat.ble mi 366 then (bif Nat.beq mi 366 then true else false) else (bif Nat.ble mi 367 then (bif Nat.beq mi 367 then true else false) else (bif Nat.beq mi 368 then true else false)))
def mw_sta_5_5 (mi : Nat) : Bool := bif Nat.ble mi 362 then (mw_sta_5_5_0 mi) else (mw_sta_5_5_1 mi)
def mw_sta_5 (mi : Nat) : Bool := bif Nat.ble mi 337 then (bif Nat.ble mi 316 then (mw_sta_5_0 mi) else (bif Nat.ble mi 326 then (mw_sta_5_1 mi) else (mw_sta_5_2 mi))) else (bif Nat.ble mi 347 then (mw_sta_5_3 mi) else (bif Nat.ble mi 357 then (mw_sta_5_4 mi) else (mw_sta_5_5 mi)))
def mw_sta (mi : Nat) : Bool := bif Nat.ble mi 183 then (bif Nat.ble mi 60 then (mw_sta_0 mi) else (bif Nat.ble mi 122 then (mw_sta_1 mi) else (mw_sta_2 mi))) else (bif Nat.ble mi 245 then (mw_sta_3 mi) else (bif Nat.ble mi 306 then (mw_sta_4 mi) else (mw_sta_5 mi)))
def mw_mc_0_0_0 (mi : Nat) : Nat := bif Nat.ble mi 1 then (bif Nat.ble mi 0 then (bif Nat.beq mi 0 then 1 else 0) else (bif Nat.beq mi 1 then 1 else 0)) else (bif Nat.ble mi 2 then (bif Nat.beq mi 2 then 1 else 0) else (bif Nat.ble mi 3 then (bif Nat.beq mi 3 then 1 else 0) else (bif Nat.beq mi 4 then 1 else 0)))
def mw_mc_0_0_1 (mi : Nat) : Nat := bif Nat.ble mi 6 then (bif Nat.ble mi 5 then (bif Nat.beq mi 5 then 1 else 0) else (bif Nat.beq mi 6 then 1 else 0)) else (bif Nat.ble mi 7 then (bif Nat.beq mi 7 then 1 else 0) else (bif Nat.ble mi 8 then (bif Nat.beq mi 8 then 1 else 0) else (bif Nat.beq mi 9 then 1 else 0)))
def mw_mc_0_0 (mi : Nat) : Nat := bif Nat.ble mi 4 then (mw_mc_0_0_0 mi) else (mw_mc_0_0_1 mi)
def mw_mc_0_1_0 (mi : Nat) : Nat := bif Nat.ble mi 11 then (bif Nat.ble mi 10 then (bif Nat.beq mi 10 then 1 else 0) else (bif Nat.beq mi 11 then 1 else 0)) else (bif Nat.ble mi 12 then (bif Nat.beq mi 12 then 1 else 0) else (bif Nat.ble mi 13 then (bif Nat.beq mi 13 then 1 else 0) else (bif Nat.beq mi 14 then 1 else 0)))
def mw_mc_0_1_1 (mi : Nat) : Nat := bif Nat.ble mi 16 then (bif Nat.ble mi 15 then (bif Nat.beq mi 15 then 1 else 0) else (bif Nat.beq mi 16 then 1 else 0)) else (bif Nat.ble mi 17 then (bif Nat.beq mi 17 then 1 else 0) else (bif Nat.ble mi 18 then (bif Nat.beq mi 18 then 1 else 0) else (bif Nat.beq mi 19 then 1 else 0)))
def mw_mc_0_1 (mi : Nat) : Nat := bif Nat.ble mi 14 then (mw_mc_0_1_0 mi) else (mw_mc_0_1_1 mi)
def mw_mc_0_2_0 (mi : Nat) : Nat := bif Nat.ble mi 21 then (bif Nat.ble mi 20 then (bif Nat.beq mi 20 then 1 else 0) else (bif Nat.beq mi 21 then 1 else 0)) else (bif Nat.ble mi 22 then (bif Nat.beq mi 22 then 1 else 0) else (bif Nat.ble mi 23 then (bif Nat.beq mi 23 then 1 else 0) else (bif Nat.beq mi 24 then 1 else 0)))
def mw_mc_0_2_1 (mi : Nat) : Nat := bif Nat.ble mi 26 then (bif Nat.ble mi 25 then (bif Nat.beq mi 25 then 1 else 0) else (bif Nat.beq mi 26 then 1 else 0)) else (bif Nat.ble mi 27 then (bif Nat.beq mi 27 then 1 else 0) else (bif Nat.ble mi 28 then (bif Nat.beq mi 28 then 1 else 0) else (bif Nat.beq mi 29 then 1 else 0)))
def mw_mc_0_2 (mi : Nat) : Nat := bif Nat.ble mi 24 then (mw_mc_0_2_0 mi) else (mw_mc_0_2_1 mi)
def mw_mc_0_3_0 (mi : Nat) : Nat := bif Nat.ble mi 31 then (bif Nat.ble mi 30 then (bif Nat.beq mi 30 then 1 else 0) else (bif Nat.beq mi 31 then 1 else 0)) else (bif Nat.ble mi 32 then (bif Nat.beq mi 32 then 1 else 0) else (bif Nat.ble mi 33 then (bif Nat.beq mi 33 then 2 else 0) else (bif Nat.beq mi 34 then 3 else 0)))
def mw_mc_0_3_1 (mi : Nat) : Nat := bif Nat.ble mi 36 then (bif Nat.ble mi 35 then (bif Nat.beq mi 35 then 3 else 0) else (bif Nat.beq mi 36 then 4 else 0)) else (bif Nat.ble mi 37 then (bif Nat.beq mi 37 then 4 else 0) else (bif Nat.ble mi 38 then (bif Nat.beq mi 38 then 4 else 0) else (bif Nat.beq mi 39 then 4 else 0)))
def mw_mc_0_3 (mi : Nat) : Nat := bif Nat.ble mi 34 then (mw_mc_0_3_0 mi) else (mw_mc_0_3_1 mi)
def mw_mc_0_4_0 (mi : Nat) : Nat := bif Nat.ble mi 41 then (bif Nat.ble mi 40 then (bif Nat.beq mi 40 then 4 else 0) else (bif Nat.beq mi 41 then 4 else 0)) else (bif Nat.ble mi 42 then (bif Nat.beq mi 42 then 4 else 0) else (bif Nat.ble mi 43 then (bif Nat.beq mi 43 then 4 else 0) else (bif Nat.beq mi 44 then 4 else 0)))
def mw_mc_0_4_1 (mi : Nat) : Nat := bif Nat.ble mi 46 then (bif Nat.ble mi 45 then (bif Nat.beq mi 45 then 4 else 0) else (bif Nat.beq mi 46 then 4 else 0)) else (bif Nat.ble mi 47 then (bif Nat.beq mi 47 then 4 else 0) else (bif Nat.ble mi 48 then (bif Nat.beq mi 48 then 4 else 0) else (bif Nat.beq mi 49 then 4 else 0)))
def mw_mc_0_4 (mi : Nat) : Nat := bif Nat.ble mi 44 then (mw_mc_0_4_0 mi) else (mw_mc_0_4_1 mi)
def mw_mc_0_5_0 (mi : Nat) : Nat := bif Nat.ble mi 51 then (bif Nat.ble mi 50 then (bif Nat.beq mi 50 then 4 else 0) else (bif Nat.beq mi 51 then 4 else 0)) else (bif Nat.ble mi 52 then (bif Nat.beq mi 52 then 4 else 0) else (bif Nat.ble mi 53 then (bif Nat.beq mi 53 then 4 else 0) else (bif Nat.beq mi 54 then 4 else 0)))
def mw_mc_0_5_1 (mi : Nat) : Nat := bif Nat.ble mi 57 then (bif Nat.ble mi 55 then (bif Nat.beq mi 55 then 4 else 0) else (bif Nat.ble mi 56 then (bif Nat.beq mi 56 then 4 else 0) else (bif Nat.beq mi 57 then 4 else 0))) else (bif Nat.ble mi 58 then (bif Nat.beq mi 58 then 4 else 0) else (bif Nat.ble mi 59 then (bif Nat.beq mi 59 then 4 else 0) else (bif Nat.beq mi 60 then 4 else 0)))
def mw_mc_0_5 (mi : Nat) : Nat := bif Nat.ble mi 54 then (mw_mc_0_5_0 mi) else (mw_mc_0_5_1 mi)
def mw_mc_0 (mi : Nat) : Nat := bif Nat.ble mi 29 then (bif Nat.ble mi 9 then (mw_mc_0_0 mi) else (bif Nat.ble mi 19 then (mw_mc_0_1 mi) else (mw_mc_0_2 mi))) else (bif Nat.ble mi 39 then (mw_mc_0_3 mi) else (bif Nat.ble mi 49 then (mw_mc_0_4 mi) else (mw_mc_0_5 mi)))
def mw_mc_1_0_0 (mi : Nat) : Nat := bif Nat.ble mi 62 then (bif Nat.ble mi 61 then (bif Nat.beq mi 61 then 4 else 0) else (bif Nat.beq mi 62 then 4 else 0)) else (bif Nat.ble mi 63 then (bif Nat.beq mi 63 then 4 else 0) else (bif Nat.ble mi 64 then (bif Nat.beq mi 64 then 4 else 0) else (bif Nat.beq mi 65 then 4 else 0)))
def mw_mc_1_0_1 (mi : Nat) : Nat := bif Nat.ble mi 67 then (bif Nat.ble mi 66 then (bif Nat.beq mi 66 then 4 else 0) else (bif Nat.beq mi 67 then 4 else 0)) else (bif Nat.ble mi 68 then (bif Nat.beq mi 68 then 4 else 0) else (bif Nat.ble mi 69 then (bif Nat.beq mi 69 then 4 else 0) else (bif Nat.beq mi 70 then 4 else 0)))
def mw_mc_1_0 (mi : Nat) : Nat := bif Nat.ble mi 65 then (mw_mc_1_0_0 mi) else (mw_mc_1_0_1 mi)
def mw_mc_1_1_0 (mi : Nat) : Nat := bif Nat.ble mi 72 then (bif Nat.ble mi 71 then (bif Nat.beq mi 71 then 4 else 0) else (bif Nat.beq mi 72 then 4 else 0)) else (bif Nat.ble mi 73 then (bif Nat.beq mi 73 then 4 else 0) else (bif Nat.ble mi 74 then (bif Nat.beq mi 74 then 4 else 0) else (bif Nat.beq mi 75 then 4 else 0)))
def mw_mc_1_1_1 (mi : Nat) : Nat := bif Nat.ble mi 77 then (bif Nat.ble mi 76 then (bif Nat.beq mi 76 then 4 else 0) else (bif Nat.beq mi 77 then 4 else 0)) else (bif Nat.ble mi 78 then (bif Nat.beq mi 78 then 4 else 0) else (bif Nat.ble mi 79 then (bif Nat.beq mi 79 then 4 else 0) else (bif Nat.beq mi 80 then 4 else 0)))
def mw_mc_1_1 (mi : Nat) : Nat := bif Nat.ble mi 75 then (mw_mc_1_1_0 mi) else (mw_mc_1_1_1 mi)
def mw_mc_1_2_0 (mi : Nat) : Nat := bif Nat.ble mi 82 then (bif Nat.ble mi 81 then (bif Nat.beq mi 81 then 4 else 0) else (bif Nat.beq mi 82 then 4 else 0)) else (bif Nat.ble mi 83 then (bif Nat.beq mi 83 then 4 else 0) else (bif Nat.ble mi 84 then (bif Nat.beq mi 84 then 4 else 0) else (bif Nat.beq mi 85 then 4 else 0)))
def mw_mc_1_2_1 (mi : Nat) : Nat := bif Nat.ble mi 88 then (bif Nat.ble mi 86 then (bif Nat.beq mi 86 then 4 else 0) else (bif Nat.ble mi 87 then (bif Nat.beq mi 87 then 4 else 0) else (bif Nat.beq mi 88 then 4 else 0))) else (bif Nat.ble mi 89 then (bif Nat.beq mi 89 then 4 else 0) else (bif Nat.ble mi 90 then (bif Nat.beq mi 90 then 4 else 0) else (bif Nat.beq mi 91 then 4 else 0)))
def mw_mc_1_2 (mi : Nat) : Nat := bif Nat.ble mi 85 then (mw_mc_1_2_0 mi) else (mw_mc_1_2_1 mi)
def mw_mc_1_3_0 (mi : Nat) : Nat := bif Nat.ble mi 93 then (bif Nat.ble mi 92 then (bif Nat.beq mi 92 then 5 else 0) else (bif Nat.beq mi 93 then 5 else 0)) else (bif Nat.ble mi 94 then (bif Nat.beq mi 94 then 5 else 0) else (bif Nat.ble mi 95 then (bif Nat.beq mi 95 then 5 else 0) else (bif Nat.beq mi 96 then 5 else 0)))
def mw_mc_1_3_1 (mi : Nat) : Nat := bif Nat.ble mi 98 then (bif Nat.ble mi 97 then (bif Nat.beq mi 97 then 5 else 0) else (bif Nat.beq mi 98 then 5 else 0)) else (bif Nat.ble mi 99 then (bif Nat.beq mi 99 then 5 else 0) else (bif Nat.ble mi 100 then (bif Nat.beq mi 100 then 5 else 0) else (bif Nat.beq mi 101 then 5 else 0)))
def mw_mc_1_3 (mi : Nat) : Nat := bif Nat.ble mi 96 then (mw_mc_1_3_0 mi) else (mw_mc_1_3_1 mi)
def mw_mc_1_4_0 (mi : Nat) : Nat := bif Nat.ble mi 103 then (bif Nat.ble mi 102 then (bif Nat.beq mi 102 then 6 else 0) else (bif Nat.beq mi 103 then 6 else 0)) else (bif Nat.ble mi 104 then (bif Nat.beq mi 104 then 6 else 0) else (bif Nat.ble mi 105 then (bif Nat.beq mi 105 then 6 else 0) else (bif Nat.beq mi 106 then 6 else 0)))
def mw_mc_1_4_1 (mi : Nat) : Nat := bif Nat.ble mi 108 then (bif Nat.ble mi 107 then (bif Nat.beq mi 107 then 6 else 0) else (bif Nat.beq mi 108 then 6 else 0)) else (bif Nat.ble mi 109 then (bif Nat.beq mi 109 then 6 else 0) else (bif Nat.ble mi 110 then (bif Nat.beq mi 110 then 7 else 0) else (bif Nat.beq mi 111 then 7 else 0)))
def mw_mc_1_4 (mi : Nat) : Nat := bif Nat.ble mi 106 then (mw_mc_1_4_0 mi) else (mw_mc_1_4_1 mi)
def mw_mc_1_5_0 (mi : Nat) : Nat := bif Nat.ble mi 113 then (bif Nat.ble mi 112 then (bif Nat.beq mi 112 then 7 else 0) else (bif Nat.beq mi 113 then 7 else 0)) else (bif Nat.ble mi 114 then (bif Nat.beq mi 114 then 7 else 0) else (bif Nat.ble mi 115 then (bif Nat.beq mi 115 then 7 else 0) else (bif Nat.beq mi 116 then 7 else 0)))
def mw_mc_1_5_1 (mi : Nat) : Nat := bif Nat.ble mi 119 then (bif Nat.ble mi 117 then (bif Nat.beq mi 117 then 7 else 0) else (bif Nat.ble mi 118 then (bif Nat.beq mi 118 then 7 else 0) else (bif Nat.beq mi 119 then 7 else 0))) else (bif Nat.ble mi 120 then (bif Nat.beq mi 120 then 7 else 0) else (bif Nat.ble mi 121 then (bif Nat.beq mi 121 then 7 else 0) else (bif Nat.beq mi 122 then 7 else 0)))
def mw_mc_1_5 (mi : Nat) : Nat := bif Nat.ble mi 116 then (mw_mc_1_5_0 mi) else (mw_mc_1_5_1 mi)
def mw_mc_1 (mi : Nat) : Nat := bif Nat.ble mi 91 then (bif Nat.ble mi 70 then (mw_mc_1_0 mi) else (bif Nat.ble mi 80 then (mw_mc_1_1 mi) else (mw_mc_1_2 mi))) else (bif Nat.ble mi 101 then (mw_mc_1_3 mi) else (bif Nat.ble mi 111 then (mw_mc_1_4 mi) else (mw_mc_1_5 mi)))
def mw_mc_2_0_0 (mi : Nat) : Nat := bif Nat.ble mi 124 then (bif Nat.ble mi 123 then (bif Nat.beq mi 123 then 7 else 0) else (bif Nat.beq mi 124 then 7 else 0)) else (bif Nat.ble mi 125 then (bif Nat.beq mi 125 then 7 else 0) else (bif Nat.ble mi 126 then (bif Nat.beq mi 126 then 7 else 0) else (bif Nat.beq mi 127 then 8 else 0)))
def mw_mc_2_0_1 (mi : Nat) : Nat := bif Nat.ble mi 129 then (bif Nat.ble mi 128 then (bif Nat.beq mi 128 then 8 else 0) else (bif Nat.beq mi 129 then 8 else 0)) else (bif Nat.ble mi 130 then (bif Nat.beq mi 130 then 8 else 0) else (bif Nat.ble mi 131 then (bif Nat.beq mi 131 then 8 else 0) else (bif Nat.beq mi 132 then 8 else 0)))
def mw_mc_2_0 (mi : Nat) : Nat := bif Nat.ble mi 127 then (mw_mc_2_0_0 mi) else (mw_mc_2_0_1 mi)
def mw_mc_2_1_0 (mi : Nat) : Nat := bif Nat.ble mi 134 then (bif Nat.ble mi 133 then (bif Nat.beq mi 133 then 8 else 0) else (bif Nat.beq mi 134 then 8 else 0)) else (bif Nat.ble mi 135 then (bif Nat.beq mi 135 then 8 else 0) else (bif Nat.ble mi 136 then (bif Nat.beq mi 136 then 8 else 0) else (bif Nat.beq mi 137 then 8 else 0)))
def mw_mc_2_1_1 (mi : Nat) : Nat := bif Nat.ble mi 139 then (bif Nat.ble mi 138 then (bif Nat.beq mi 138 then 8 else 0) else (bif Nat.beq mi 139 then 8 else 0)) else (bif Nat.ble mi 140 then (bif Nat.beq mi 140 then 8 else 0) else (bif Nat.ble mi 141 then (bif Nat.beq mi 141 then 8 else 0) else (bif Nat.beq mi 142 then 8 else 0)))
def mw_mc_2_1 (mi : Nat) : Nat := bif Nat.ble mi 137 then (mw_mc_2_1_0 mi) else (mw_mc_2_1_1 mi)
def mw_mc_2_2_0 (mi : Nat) : Nat := bif Nat.ble mi 144 then (bif Nat.ble mi 143 then (bif Nat.beq mi 143 then 8 else 0) else (bif Nat.beq mi 144 then 8 else 0)) else (bif Nat.ble mi 145 then (bif Nat.beq mi 145 then 8 else 0) else (bif Nat.ble mi 146 then (bif Nat.beq mi 146 then 8 else 0) else (bif Nat.beq mi 147 then 8 else 0)))
def mw_mc_2_2_1 (mi : Nat) : Nat := bif Nat.ble mi 149 then (bif Nat.ble mi 148 then (bif Nat.beq mi 148 then 8 else 0) else (bif Nat.beq mi 149 then 8 else 0)) else (bif Nat.ble mi 150 then (bif Nat.beq mi 150 then 8 else 0) else (bif Nat.ble mi 151 then (bif Nat.beq mi 151 then 8 else 0) else (bif Nat.beq mi 152 then 8 else 0)))
def mw_mc_2_2 (mi : Nat) : Nat := bif Nat.ble mi 147 then (mw_mc_2_2_0 mi) else (mw_mc_2_2_1 mi)
def mw_mc_2_3_0 (mi : Nat) : Nat := bif Nat.ble mi 154 then (bif Nat.ble mi 153 then (bif Nat.beq mi 153 then 8 else 0) else (bif Nat.beq mi 154 then 8 else 0)) else (bif Nat.ble mi 155 then (bif Nat.beq mi 155 then 8 else 0) else (bif Nat.ble mi 156 then (bif Nat.beq mi 156 then 8 else 0) else (bif Nat.beq mi 157 then 8 else 0)))
def mw_mc_2_3_1 (mi : Nat) : Nat := bif Nat.ble mi 159 then (bif Nat.ble mi 158 then (bif Nat.beq mi 158 then 8 else 0) else (bif Nat.beq mi 159 then 8 else 0)) else (bif Nat.ble mi 160 then (bif Nat.beq mi 160 then 8 else 0) else (bif Nat.ble mi 161 then (bif Nat.beq mi 161 then 9 else 0) else (bif Nat.beq mi 162 then 9 else 0)))
def mw_mc_2_3 (mi : Nat) : Nat := bif Nat.ble mi 157 then (mw_mc_2_3_0 mi) else (mw_mc_2_3_1 mi)
def mw_mc_2_4_0 (mi : Nat) : Nat := bif Nat.ble mi 164 then (bif Nat.ble mi 163 then (bif Nat.beq mi 163 then 9 else 0) else (bif Nat.beq mi 164 then 10 else 0)) else (bif Nat.ble mi 165 then (bif Nat.beq mi 165 then 10 else 0) else (bif Nat.ble mi 166 then (bif Nat.beq mi 166 then 10 else 0) else (bif Nat.beq mi 167 then 10 else 0)))
def mw_mc_2_4_1 (mi : Nat) : Nat := bif Nat.ble mi 169 then (bif Nat.ble mi 168 then (bif Nat.beq mi 168 then 11 else 0) else (bif Nat.beq mi 169 then 11 else 0)) else (bif Nat.ble mi 170 then (bif Nat.beq mi 170 then 11 else 0) else (bif Nat.ble mi 171 then (bif Nat.beq mi 171 then 11 else 0) else (bif Nat.beq mi 172 then 11 else 0)))
def mw_mc_2_4 (mi : Nat) : Nat := bif Nat.ble mi 167 then (mw_mc_2_4_0 mi) else (mw_mc_2_4_1 mi)
def mw_mc_2_5_0 (mi : Nat) : Nat := bif Nat.ble mi 174 then (bif Nat.ble mi 173 then (bif Nat.beq mi 173 then 11 else 0) else (bif Nat.beq mi 174 then 11 else 0)) else (bif Nat.ble mi 175 then (bif Nat.beq mi 175 then 11 else 0) else (bif Nat.ble mi 176 then (bif Nat.beq mi 176 then 11 else 0) else (bif Nat.beq mi 177 then 11 else 0)))
def mw_mc_2_5_1 (mi : Nat) : Nat := bif Nat.ble mi 180 then (bif Nat.ble mi 178 then (bif Nat.beq mi 178 then 11 else 0) else (bif Nat.ble mi 179 then (bif Nat.beq mi 179 then 11 else 0) else (bif Nat.beq mi 180 then 11 else 0))) else (bif Nat.ble mi 181 then (bif Nat.beq mi 181 then 11 else 0) else (bif Nat.ble mi 182 then (bif Nat.beq mi 182 then 11 else 0) else (bif Nat.beq mi 183 then 11 else 0)))
def mw_mc_2_5 (mi : Nat) : Nat := bif Nat.ble mi 177 then (mw_mc_2_5_0 mi) else (mw_mc_2_5_1 mi)
def mw_mc_2 (mi : Nat) : Nat := bif Nat.ble mi 152 then (bif Nat.ble mi 132 then (mw_mc_2_0 mi) else (bif Nat.ble mi 142 then (mw_mc_2_1 mi) else (mw_mc_2_2 mi))) else (bif Nat.ble mi 162 then (mw_mc_2_3 mi) else (bif Nat.ble mi 172 then (mw_mc_2_4 mi) else (mw_mc_2_5 mi)))
def mw_mc_3_0_0 (mi : Nat) : Nat := bif Nat.ble mi 185 then (bif Nat.ble mi 184 then (bif Nat.beq mi 184 then 11 else 0) else (bif Nat.beq mi 185 then 11 else 0)) else (bif Nat.ble mi 186 then (bif Nat.beq mi 186 then 11 else 0) else (bif Nat.ble mi 187 then (bif Nat.beq mi 187 then 11 else 0) else (bif Nat.beq mi 188 then 11 else 0)))
def mw_mc_3_0_1 (mi : Nat) : Nat := bif Nat.ble mi 190 then (bif Nat.ble mi 189 then (bif Nat.beq mi 189 then 11 else 0) else (bif Nat.beq mi 190 then 11 else 0)) else (bif Nat.ble mi 191 then (bif Nat.beq mi 191 then 11 else 0) else (bif Nat.ble mi 192 then (bif Nat.beq mi 192 then 12 else 0) else (bif Nat.beq mi 193 then 12 else 0)))
def mw_mc_3_0 (mi : Nat) : Nat := bif Nat.ble mi 188 then (mw_mc_3_0_0 mi) else (mw_mc_3_0_1 mi)
def mw_mc_3_1_0 (mi : Nat) : Nat := bif Nat.ble mi 195 then (bif Nat.ble mi 194 then (bif Nat.beq mi 194 then 12 else 0) else (bif Nat.beq mi 195 then 12 else 0)) else (bif Nat.ble mi 196 then (bif Nat.beq mi 196 then 12 else 0) else (bif Nat.ble mi 197 then (bif Nat.beq mi 197 then 13 else 0) else (bif Nat.beq mi 198 then 13 else 0)))
def mw_mc_3_1_1 (mi : Nat) : Nat := bif Nat.ble mi 200 then (bif Nat.ble mi 199 then (bif Nat.beq mi 199 then 13 else 0) else (bif Nat.beq mi 200 then 13 else 0)) else (bif Nat.ble mi 201 then (bif Nat.beq mi 201 then 13 else 0) else (bif Nat.ble mi 202 then (bif Nat.beq mi 202 then 13 else 0) else (bif Nat.beq mi 203 then 13 else 0)))
def mw_mc_3_1 (mi : Nat) : Nat := bif Nat.ble mi 198 then (mw_mc_3_1_0 mi) else (mw_mc_3_1_1 mi)
def mw_mc_3_2_0 (mi : Nat) : Nat := bif Nat.ble mi 205 then (bif Nat.ble mi 204 then (bif Nat.beq mi 204 then 13 else 0) else (bif Nat.beq mi 205 then 13 else 0)) else (bif Nat.ble mi 206 then (bif Nat.beq mi 206 then 13 else 0) else (bif Nat.ble mi 207 then (bif Nat.beq mi 207 then 13 else 0) else (bif Nat.beq mi 208 then 13 else 0)))
def mw_mc_3_2_1 (mi : Nat) : Nat := bif Nat.ble mi 211 then (bif Nat.ble mi 209 then (bif Nat.beq mi 209 then 13 else 0) else (bif Nat.ble mi 210 then (bif Nat.beq mi 210 then 13 else 0) else (bif Nat.beq mi 211 then 13 else 0))) else (bif Nat.ble mi 212 then (bif Nat.beq mi 212 then 13 else 0) else (bif Nat.ble mi 213 then (bif Nat.beq mi 213 then 13 else 0) else (bif Nat.beq mi 214 then 13 else 0)))
def mw_mc_3_2 (mi : Nat) : Nat := bif Nat.ble mi 208 then (mw_mc_3_2_0 mi) else (mw_mc_3_2_1 mi)
def mw_mc_3_3_0 (mi : Nat) : Nat := bif Nat.ble mi 216 then (bif Nat.ble mi 215 then (bif Nat.beq mi 215 then 13 else 0) else (bif Nat.beq mi 216 then 13 else 0)) else (bif Nat.ble mi 217 then (bif Nat.beq mi 217 then 13 else 0) else (bif Nat.ble mi 218 then (bif Nat.beq mi 218 then 13 else 0) else (bif Nat.beq mi 219 then 13 else 0)))
def mw_mc_3_3_1 (mi : Nat) : Nat := bif Nat.ble mi 221 then (bif Nat.ble mi 220 then (bif Nat.beq mi 220 then 13 else 0) else (bif Nat.beq mi 221 then 13 else 0)) else (bif Nat.ble mi 222 then (bif Nat.beq mi 222 then 13 else 0) else (bif Nat.ble mi 223 then (bif Nat.beq mi 223 then 13 else 0) else (bif Nat.beq mi 224 then 13 else 0)))
def mw_mc_3_3 (mi : Nat) : Nat := bif Nat.ble mi 219 then (mw_mc_3_3_0 mi) else (mw_mc_3_3_1 mi)
def mw_mc_3_4_0 (mi : Nat) : Nat := bif Nat.ble mi 226 then (bif Nat.ble mi 225 then (bif Nat.beq mi 225 then 13 else 0) else (bif Nat.beq mi 226 then 13 else 0)) else (bif Nat.ble mi 227 then (bif Nat.beq mi 227 then 13 else 0) else (bif Nat.ble mi 228 then (bif Nat.beq mi 228 then 13 else 0) else (bif Nat.beq mi 229 then 13 else 0)))
def mw_mc_3_4_1 (mi : Nat) : Nat := bif Nat.ble mi 231 then (bif Nat.ble mi 230 then (bif Nat.beq mi 230 then 13 else 0) else (bif Nat.beq mi 231 then 13 else 0)) else (bif Nat.ble mi 232 then (bif Nat.beq mi 232 then 13 else 0) else (bif Nat.ble mi 233 then (bif Nat.beq mi 233 then 13 else 0) else (bif Nat.beq mi 234 then 13 else 0)))
def mw_mc_3_4 (mi : Nat) : Nat := bif Nat.ble mi 229 then (mw_mc_3_4_0 mi) else (mw_mc_3_4_1 mi)
def mw_mc_3_5_0 (mi : Nat) : Nat := bif Nat.ble mi 236 then (bif Nat.ble mi 235 then (bif Nat.beq mi 235 then 13 else 0) else (bif Nat.beq mi 236 then 13 else 0)) else (bif Nat.ble mi 237 then (bif Nat.beq mi 237 then 13 else 0) else (bif Nat.ble mi 238 then (bif Nat.beq mi 238 then 13 else 0) else (bif Nat.beq mi 239 then 13 else 0)))
def mw_mc_3_5_1 (mi : Nat) : Nat := bif Nat.ble mi 242 then (bif Nat.ble mi 240 then (bif Nat.beq mi 240 then 13 else 0) else (bif Nat.ble mi 241 then (bif Nat.beq mi 241 then 13 else 0) else (bif Nat.beq mi 242 then 13 else 0))) else (bif Nat.ble mi 243 then (bif Nat.beq mi 243 then 13 else 0) else (bif Nat.ble mi 244 then (bif Nat.beq mi 244 then 13 else 0) else (bif Nat.beq mi 245 then 13 else 0)))
def mw_mc_3_5 (mi : Nat) : Nat := bif Nat.ble mi 239 then (mw_mc_3_5_0 mi) else (mw_mc_3_5_1 mi)
def mw_mc_3 (mi : Nat) : Nat := bif Nat.ble mi 214 then (bif Nat.ble mi 193 then (mw_mc_3_0 mi) else (bif Nat.ble mi 203 then (mw_mc_3_1 mi) else (mw_mc_3_2 mi))) else (bif Nat.ble mi 224 then (mw_mc_3_3 mi) else (bif Nat.ble mi 234 then (mw_mc_3_4 mi) else (mw_mc_3_5 mi)))
def mw_mc_4_0_0 (mi : Nat) : Nat := bif Nat.ble mi 247 then (bif Nat.ble mi 246 then (bif Nat.beq mi 246 then 13 else 0) else (bif Nat.beq mi 247 then 13 else 0)) else (bif Nat.ble mi 248 then (bif Nat.beq mi 248 then 13 else 0) else (bif Nat.ble mi 249 then (bif Nat.beq mi 249 then 13 else 0) else (bif Nat.beq mi 250 then 13 else 0)))
def mw_mc_4_0_1 (mi : Nat) : Nat := bif Nat.ble mi 252 then (bif Nat.ble mi 251 then (bif Nat.beq mi 251 then 13 else 0) else (bif Nat.beq mi 252 then 13 else 0)) else (bif Nat.ble mi 253 then (bif Nat.beq mi 253 then 13 else 0) else (bif Nat.ble mi 254 then (bif Nat.beq mi 254 then 13 else 0) else (bif Nat.beq mi 255 then 13 else 0)))
def mw_mc_4_0 (mi : Nat) : Nat := bif Nat.ble mi 250 then (mw_mc_4_0_0 mi) else (mw_mc_4_0_1 mi)
def mw_mc_4_1_0 (mi : Nat) : Nat := bif Nat.ble mi 257 then (bif Nat.ble mi 256 then (bif Nat.beq mi 256 then 13 else 0) else (bif Nat.beq mi 257 then 13 else 0)) else (bif Nat.ble mi 258 then (bif Nat.beq mi 258 then 13 else 0) else (bif Nat.ble mi 259 then (bif Nat.beq mi 259 then 13 else 0) else (bif Nat.beq mi 260 then 13 else 0)))
def mw_mc_4_1_1 (mi : Nat) : Nat := bif Nat.ble mi 262 then (bif Nat.ble mi 261 then (bif Nat.beq mi 261 then 13 else 0) else (bif Nat.beq mi 262 then 13 else 0)) else (bif Nat.ble mi 263 then (bif Nat.beq mi 263 then 13 else 0) else (bif Nat.ble mi 264 then (bif Nat.beq mi 264 then 13 else 0) else (bif Nat.beq mi 265 then 13 else 0)))
def mw_mc_4_1 (mi : Nat) : Nat := bif Nat.ble mi 260 then (mw_mc_4_1_0 mi) else (mw_mc_4_1_1 mi)
def mw_mc_4_2_0 (mi : Nat) : Nat := bif Nat.ble mi 267 then (bif Nat.ble mi 266 then (bif Nat.beq mi 266 then 13 else 0) else (bif Nat.beq mi 267 then 13 else 0)) else (bif Nat.ble mi 268 then (bif Nat.beq mi 268 then 13 else 0) else (bif Nat.ble mi 269 then (bif Nat.beq mi 269 then 13 else 0) else (bif Nat.beq mi 270 then 13 else 0)))
def mw_mc_4_2_1 (mi : Nat) : Nat := bif Nat.ble mi 272 then (bif Nat.ble mi 271 then (bif Nat.beq mi 271 then 13 else 0) else (bif Nat.beq mi 272 then 13 else 0)) else (bif Nat.ble mi 273 then (bif Nat.beq mi 273 then 13 else 0) else (bif Nat.ble mi 274 then (bif Nat.beq mi 274 then 13 else 0) else (bif Nat.beq mi 275 then 13 else 0)))
def mw_mc_4_2 (mi : Nat) : Nat := bif Nat.ble mi 270 then (mw_mc_4_2_0 mi) else (mw_mc_4_2_1 mi)
def mw_mc_4_3_0 (mi : Nat) : Nat := bif Nat.ble mi 277 then (bif Nat.ble mi 276 then (bif Nat.beq mi 276 then 13 else 0) else (bif Nat.beq mi 277 then 13 else 0)) else (bif Nat.ble mi 278 then (bif Nat.beq mi 278 then 13 else 0) else (bif Nat.ble mi 279 then (bif Nat.beq mi 279 then 13 else 0) else (bif Nat.beq mi 280 then 13 else 0)))
def mw_mc_4_3_1 (mi : Nat) : Nat := bif Nat.ble mi 282 then (bif Nat.ble mi 281 then (bif Nat.beq mi 281 then 13 else 0) else (bif Nat.beq mi 282 then 13 else 0)) else (bif Nat.ble mi 283 then (bif Nat.beq mi 283 then 13 else 0) else (bif Nat.ble mi 284 then (bif Nat.beq mi 284 then 13 else 0) else (bif Nat.beq mi 285 then 13 else 0)))
def mw_mc_4_3 (mi : Nat) : Nat := bif Nat.ble mi 280 then (mw_mc_4_3_0 mi) else (mw_mc_4_3_1 mi)
def mw_mc_4_4_0 (mi : Nat) : Nat := bif Nat.ble mi 287 then (bif Nat.ble mi 286 then (bif Nat.beq mi 286 then 13 else 0) else (bif Nat.beq mi 287 then 13 else 0)) else (bif Nat.ble mi 288 then (bif Nat.beq mi 288 then 13 else 0) else (bif Nat.ble mi 289 then (bif Nat.beq mi 289 then 13 else 0) else (bif Nat.beq mi 290 then 13 else 0)))
def mw_mc_4_4_1 (mi : Nat) : Nat := bif Nat.ble mi 292 then (bif Nat.ble mi 291 then (bif Nat.beq mi 291 then 13 else 0) else (bif Nat.beq mi 292 then 13 else 0)) else (bif Nat.ble mi 293 then (bif Nat.beq mi 293 then 13 else 0) else (bif Nat.ble mi 294 then (bif Nat.beq mi 294 then 13 else 0) else (bif Nat.beq mi 295 then 13 else 0)))
def mw_mc_4_4 (mi : Nat) : Nat := bif Nat.ble mi 290 then (mw_mc_4_4_0 mi) else (mw_mc_4_4_1 mi)
def mw_mc_4_5_0 (mi : Nat) : Nat := bif Nat.ble mi 297 then (bif Nat.ble mi 296 then (bif Nat.beq mi 296 then 13 else 0) else (bif Nat.beq mi 297 then 13 else 0)) else (bif Nat.ble mi 298 then (bif Nat.beq mi 298 then 13 else 0) else (bif Nat.ble mi 299 then (bif Nat.beq mi 299 then 13 else 0) else (bif Nat.beq mi 300 then 13 else 0)))
def mw_mc_4_5_1 (mi : Nat) : Nat := bif Nat.ble mi 303 then (bif Nat.ble mi 301 then (bif Nat.beq mi 301 then 13 else 0) else (bif Nat.ble mi 302 then (bif Nat.beq mi 302 then 13 else 0) else (bif Nat.beq mi 303 then 13 else 0))) else (bif Nat.ble mi 304 then (bif Nat.beq mi 304 then 13 else 0) else (bif Nat.ble mi 305 then (bif Nat.beq mi 305 then 13 else 0) else (bif Nat.beq mi 306 then 13 else 0)))
def mw_mc_4_5 (mi : Nat) : Nat := bif Nat.ble mi 300 then (mw_mc_4_5_0 mi) else (mw_mc_4_5_1 mi)
def mw_mc_4 (mi : Nat) : Nat := bif Nat.ble mi 275 then (bif Nat.ble mi 255 then (mw_mc_4_0 mi) else (bif Nat.ble mi 265 then (mw_mc_4_1 mi) else (mw_mc_4_2 mi))) else (bif Nat.ble mi 285 then (mw_mc_4_3 mi) else (bif Nat.ble mi 295 then (mw_mc_4_4 mi) else (mw_mc_4_5 mi)))
def mw_mc_5_0_0 (mi : Nat) : Nat := bif Nat.ble mi 308 then (bif Nat.ble mi 307 then (bif Nat.beq mi 307 then 13 else 0) else (bif Nat.beq mi 308 then 13 else 0)) else (bif Nat.ble mi 309 then (bif Nat.beq mi 309 then 13 else 0) else (bif Nat.ble mi 310 then (bif Nat.beq mi 310 then 13 else 0) else (bif Nat.beq mi 311 then 13 else 0)))
def mw_mc_5_0_1 (mi : Nat) : Nat := bif Nat.ble mi 313 then (bif Nat.ble mi 312 then (bif Nat.beq mi 312 then 13 else 0) else (bif Nat.beq mi 313 then 13 else 0)) else (bif Nat.ble mi 314 then (bif Nat.beq mi 314 then 13 else 0) else (bif Nat.ble mi 315 then (bif Nat.beq mi 315 then 13 else 0) else (bif Nat.beq mi 316 then 13 else 0)))
def mw_mc_5_0 (mi : Nat) : Nat := bif Nat.ble mi 311 then (mw_mc_5_0_0 mi) else (mw_mc_5_0_1 mi)
def mw_mc_5_1_0 (mi : Nat) : Nat := bif Nat.ble mi 318 then (bif Nat.ble mi 317 then (bif Nat.beq mi 317 then 13 else 0) else (bif Nat.beq mi 318 then 13 else 0)) else (bif Nat.ble mi 319 then (bif Nat.beq mi 319 then 13 else 0) else (bif Nat.ble mi 320 then (bif Nat.beq mi 320 then 13 else 0) else (bif Nat.beq mi 321 then 13 else 0)))
def mw_mc_5_1_1 (mi : Nat) : Nat := bif Nat.ble mi 323 then (bif Nat.ble mi 322 then (bif Nat.beq mi 322 then 13 else 0) else (bif Nat.beq mi 323 then 13 else 0)) else (bif Nat.ble mi 324 then (bif Nat.beq mi 324 then 13 else 0) else (bif Nat.ble mi 325 then (bif Nat.beq mi 325 then 13 else 0) else (bif Nat.beq mi 326 then 13 else 0)))
def mw_mc_5_1 (mi : Nat) : Nat := bif Nat.ble mi 321 then (mw_mc_5_1_0 mi) else (mw_mc_5_1_1 mi)
def mw_mc_5_2_0 (mi : Nat) : Nat := bif Nat.ble mi 328 then (bif Nat.ble mi 327 then (bif Nat.beq mi 327 then 13 else 0) else (bif Nat.beq mi 328 then 13 else 0)) else (bif Nat.ble mi 329 then (bif Nat.beq mi 329 then 13 else 0) else (bif Nat.ble mi 330 then (bif Nat.beq mi 330 then 13 else 0) else (bif Nat.beq mi 331 then 13 else 0)))
def mw_mc_5_2_1 (mi : Nat) : Nat := bif Nat.ble mi 334 then (bif Nat.ble mi 332 then (bif Nat.beq mi 332 then 13 else 0) else (bif Nat.ble mi 333 then (bif Nat.beq mi 333 then 13 else 0) else (bif Nat.beq mi 334 then 13 else 0))) else (bif Nat.ble mi 335 then (bif Nat.beq mi 335 then 13 else 0) else (bif Nat.ble mi 336 then (bif Nat.beq mi 336 then 13 else 0) else (bif Nat.beq mi 337 then 13 else 0)))
def mw_mc_5_2 (mi : Nat) : Nat := bif Nat.ble mi 331 then (mw_mc_5_2_0 mi) else (mw_mc_5_2_1 mi)
def mw_mc_5_3_0 (mi : Nat) : Nat := bif Nat.ble mi 339 then (bif Nat.ble mi 338 then (bif Nat.beq mi 338 then 13 else 0) else (bif Nat.beq mi 339 then 13 else 0)) else (bif Nat.ble mi 340 then (bif Nat.beq mi 340 then 13 else 0) else (bif Nat.ble mi 341 then (bif Nat.beq mi 341 then 13 else 0) else (bif Nat.beq mi 342 then 13 else 0)))
def mw_mc_5_3_1 (mi : Nat) : Nat := bif Nat.ble mi 344 then (bif Nat.ble mi 343 then (bif Nat.beq mi 343 then 13 else 0) else (bif Nat.beq mi 344 then 13 else 0)) else (bif Nat.ble mi 345 then (bif Nat.beq mi 345 then 13 else 0) else (bif Nat.ble mi 346 then (bif Nat.beq mi 346 then 13 else 0) else (bif Nat.beq mi 347 then 13 else 0)))
def mw_mc_5_3 (mi : Nat) : Nat := bif Nat.ble mi 342 then (mw_mc_5_3_0 mi) else (mw_mc_5_3_1 mi)
def mw_mc_5_4_0 (mi : Nat) : Nat := bif Nat.ble mi 349 then (bif Nat.ble mi 348 then (bif Nat.beq mi 348 then 13 else 0) else (bif Nat.beq mi 349 then 13 else 0)) else (bif Nat.ble mi 350 then (bif Nat.beq mi 350 then 13 else 0) else (bif Nat.ble mi 351 then (bif Nat.beq mi 351 then 13 else 0) else (bif Nat.beq mi 352 then 13 else 0)))
def mw_mc_5_4_1 (mi : Nat) : Nat := bif Nat.ble mi 354 then (bif Nat.ble mi 353 then (bif Nat.beq mi 353 then 13 else 0) else (bif Nat.beq mi 354 then 13 else 0)) else (bif Nat.ble mi 355 then (bif Nat.beq mi 355 then 13 else 0) else (bif Nat.ble mi 356 then (bif Nat.beq mi 356 then 13 else 0) else (bif Nat.beq mi 357 then 13 else 0)))
def mw_mc_5_4 (mi : Nat) : Nat := bif Nat.ble mi 352 then (mw_mc_5_4_0 mi) else (mw_mc_5_4_1 mi)
def mw_mc_5_5_0 (mi : Nat) : Nat := bif Nat.ble mi 359 then (bif Nat.ble mi 358 then (bif Nat.beq mi 358 then 13 else 0) else (bif Nat.beq mi 359 then 13 else 0)) else (bif Nat.ble mi 360 then (bif Nat.beq mi 360 then 13 else 0) else (bif Nat.ble mi 361 then (bif Nat.beq mi 361 then 13 else 0) else (bif Nat.beq mi 362 then 13 else 0)))
def mw_mc_5_5_1 (mi : Nat) : Nat := bif Nat.ble mi 365 then (bif Nat.ble mi 363 then (bif Nat.beq mi 363 then 13 else 0) else (bif Nat.ble mi 364 then (bif Nat.beq mi 364 then 13 else 0) else (bif Nat.beq mi 365 then 13 else 0))) else (bif Nat.ble mi 366 then (bif Nat.beq mi 366 then 50 else 0) else (bif Nat.ble mi 367 then (bif Nat.beq mi 367 then 50 else 0) else (bif Nat.beq mi 368 then 50 else 0)))
def mw_mc_5_5 (mi : Nat) : Nat := bif Nat.ble mi 362 then (mw_mc_5_5_0 mi) else (mw_mc_5_5_1 mi)
def mw_mc_5 (mi : Nat) : Nat := bif Nat.ble mi 337 then (bif Nat.ble mi 316 then (mw_mc_5_0 mi) else (bif Nat.ble mi 326 then (mw_mc_5_1 mi) else (mw_mc_5_2 mi))) else (bif Nat.ble mi 347 then (mw_mc_5_3 mi) else (bif Nat.ble mi 357 then (mw_mc_5_4 mi) else (mw_mc_5_5 mi)))
def mw_mc (mi : Nat) : Nat := bif Nat.ble mi 183 then (bif Nat.ble mi 60 then (mw_mc_0 mi) else (bif Nat.ble mi 122 then (mw_mc_1 mi) else (mw_mc_2 mi))) else (bif Nat.ble mi 245 then (mw_mc_3 mi) else (bif Nat.ble mi 306 then (mw_mc_4 mi) else (mw_mc_5 mi)))
def mw_rk_0_0_0 (mi : Nat) : Nat := bif Nat.ble mi 1 then (bif Nat.ble mi 0 then (bif Nat.beq mi 0 then 2 else 99) else (bif Nat.beq mi 1 then 2 else 99)) else (bif Nat.ble mi 2 then (bif Nat.beq mi 2 then 2 else 99) else (bif Nat.ble mi 3 then (bif Nat.beq mi 3 then 2 else 99) else (bif Nat.beq mi 4 then 1 else 99)))
def mw_rk_0_0_1 (mi : Nat) : Nat := bif Nat.ble mi 6 then (bif Nat.ble mi 5 then (bif Nat.beq mi 5 then 0 else 99) else (bif Nat.beq mi 6 then 0 else 99)) else (bif Nat.ble mi 7 then (bif Nat.beq mi 7 then 0 else 99) else (bif Nat.ble mi 8 then (bif Nat.beq mi 8 then 17 else 99) else (bif Nat.beq mi 9 then 1 else 99)))
def mw_rk_0_0 (mi : Nat) : Nat := bif Nat.ble mi 4 then (mw_rk_0_0_0 mi) else (mw_rk_0_0_1 mi)
def mw_rk_0_1_0 (mi : Nat) : Nat := bif Nat.ble mi 11 then (bif Nat.ble mi 10 then (bif Nat.beq mi 10 then 0 else 99) else (bif Nat.beq mi 11 then 0 else 99)) else (bif Nat.ble mi 12 then (bif Nat.beq mi 12 then 1 else 99) else (bif Nat.ble mi 13 then (bif Nat.beq mi 13 then 2 else 99) else (bif Nat.beq mi 14 then 1 else 99)))
def mw_rk_0_1_1 (mi : Nat) : Nat := bif Nat.ble mi 16 then (bif Nat.ble mi 15 then (bif Nat.beq mi 15 then 1 else 99) else (bif Nat.beq mi 16 then 1 else 99)) else (bif Nat.ble mi 17 then (bif Nat.beq mi 17 then 1 else 99) else (bif Nat.ble mi 18 then (bif Nat.beq mi 18 then 1 else 99) else (bif Nat.beq mi 19 then 0 else 99)))
def mw_rk_0_1 (mi : Nat) : Nat := bif Nat.ble mi 14 then (mw_rk_0_1_0 mi) else (mw_rk_0_1_1 mi)
def mw_rk_0_2_0 (mi : Nat) : Nat := bif Nat.ble mi 21 then (bif Nat.ble mi 20 then (bif Nat.beq mi 20 then 1 else 99) else (bif Nat.beq mi 21 then 1 else 99)) else (bif Nat.ble mi 22 then (bif Nat.beq mi 22 then 2 else 99) else (bif Nat.ble mi 23 then (bif Nat.beq mi 23 then 1 else 99) else (bif Nat.beq mi 24 then 1 else 99)))
def mw_rk_0_2_1 (mi : Nat) : Nat := bif Nat.ble mi 26 then (bif Nat.ble mi 25 then (bif Nat.beq mi 25 then 1 else 99) else (bif Nat.beq mi 26 then 1 else 99)) else (bif Nat.ble mi 27 then (bif Nat.beq mi 27 then 1 else 99) else (bif Nat.ble mi 28 then (bif Nat.beq mi 28 then 1 else 99) else (bif Nat.beq mi 29 then 1 else 99)))
def mw_rk_0_2 (mi : Nat) : Nat := bif Nat.ble mi 24 then (mw_rk_0_2_0 mi) else (mw_rk_0_2_1 mi)
def mw_rk_0_3_0 (mi : Nat) : Nat := bif Nat.ble mi 31 then (bif Nat.ble mi 30 then (bif Nat.beq mi 30 then 1 else 99) else (bif Nat.beq mi 31 then 1 else 99)) else (bif Nat.ble mi 32 then (bif Nat.beq mi 32 then 1 else 99) else (bif Nat.ble mi 33 then (bif Nat.beq mi 33 then 1 else 99) else (bif Nat.beq mi 34 then 0 else 99)))
def mw_rk_0_3_1 (mi : Nat) : Nat := bif Nat.ble mi 36 then (bif Nat.ble mi 35 then (bif Nat.beq mi 35 then 1 else 99) else (bif Nat.beq mi 36 then 2 else 99)) else (bif Nat.ble mi 37 then (bif Nat.beq mi 37 then 0 else 99) else (bif Nat.ble mi 38 then (bif Nat.beq mi 38 then 0 else 99) else (bif Nat.beq mi 39 then 0 else 99)))
def mw_rk_0_3 (mi : Nat) : Nat := bif Nat.ble mi 34 then (mw_rk_0_3_0 mi) else (mw_rk_0_3_1 mi)
def mw_rk_0_4_0 (mi : Nat) : Nat := bif Nat.ble mi 41 then (bif Nat.ble mi 40 then (bif Nat.beq mi 40 then 0 else 99) else (bif Nat.beq mi 41 then 0 else 99)) else (bif Nat.ble mi 42 then (bif Nat.beq mi 42 then 0 else 99) else (bif Nat.ble mi 43 then (bif Nat.beq mi 43 then 1 else 99) else (bif Nat.beq mi 44 then 0 else 99)))
def mw_rk_0_4_1 (mi : Nat) : Nat := bif Nat.ble mi 46 then (bif Nat.ble mi 45 then (bif Nat.beq mi 45 then 2 else 99) else (bif Nat.beq mi 46 then 0 else 99)) else (bif Nat.ble mi 47 then (bif Nat.beq mi 47 then 1 else 99) else (bif Nat.ble mi 48 then (bif Nat.beq mi 48 then 1 else 99) else (bif Nat.beq mi 49 then 0 else 99)))
def mw_rk_0_4 (mi : Nat) : Nat := bif Nat.ble mi 44 then (mw_rk_0_4_0 mi) else (mw_rk_0_4_1 mi)
def mw_rk_0_5_0 (mi : Nat) : Nat := bif Nat.ble mi 51 then (bif Nat.ble mi 50 then (bif Nat.beq mi 50 then 2 else 99) else (bif Nat.beq mi 51 then 1 else 99)) else (bif Nat.ble mi 52 then (bif Nat.beq mi 52 then 1 else 99) else (bif Nat.ble mi 53 then (bif Nat.beq mi 53 then 2 else 99) else (bif Nat.beq mi 54 then 1 else 99)))
def mw_rk_0_5_1 (mi : Nat) : Nat := bif Nat.ble mi 57 then (bif Nat.ble mi 55 then (bif Nat.beq mi 55 then 0 else 99) else (bif Nat.ble mi 56 then (bif Nat.beq mi 56 then 2 else 99) else (bif Nat.beq mi 57 then 2 else 99))) else (bif Nat.ble mi 58 then (bif Nat.beq mi 58 then 2 else 99) else (bif Nat.ble mi 59 then (bif Nat.beq mi 59 then 1 else 99) else (bif Nat.beq mi 60 then 1 else 99)))
def mw_rk_0_5 (mi : Nat) : Nat := bif Nat.ble mi 54 then (mw_rk_0_5_0 mi) else (mw_rk_0_5_1 mi)
def mw_rk_0 (mi : Nat) : Nat := bif Nat.ble mi 29 then (bif Nat.ble mi 9 then (mw_rk_0_0 mi) else (bif Nat.ble mi 19 then (mw_rk_0_1 mi) else (mw_rk_0_2 mi))) else (bif Nat.ble mi 39 then (mw_rk_0_3 mi) else (bif Nat.ble mi 49 then (mw_rk_0_4 mi) else (mw_rk_0_5 mi)))
def mw_rk_1_0_0 (mi : Nat) : Nat := bif Nat.ble mi 62 then (bif Nat.ble mi 61 then (bif Nat.beq mi 61 then 22 else 99) else (bif Nat.beq mi 62 then 0 else 99)) else (bif Nat.ble mi 63 then (bif Nat.beq mi 63 then 0 else 99) else (bif Nat.ble mi 64 then (bif Nat.beq mi 64 then 0 else 99) else (bif Nat.beq mi 65 then 1 else 99)))
def mw_rk_1_0_1 (mi : Nat) : Nat := bif Nat.ble mi 67 then (bif Nat.ble mi 66 then (bif Nat.beq mi 66 then 2 else 99) else (bif Nat.beq mi 67 then 1 else 99)) else (bif Nat.ble mi 68 then (bif Nat.beq mi 68 then 1 else 99) else (bif Nat.ble mi 69 then (bif Nat.beq mi 69 then 1 else 99) else (bif Nat.beq mi 70 then 1 else 99)))
def mw_rk_1_0 (mi : Nat) : Nat := bif Nat.ble mi 65 then (mw_rk_1_0_0 mi) else (mw_rk_1_0_1 mi)
def mw_rk_1_1_0 (mi : Nat) : Nat := bif Nat.ble mi 72 then (bif Nat.ble mi 71 then (bif Nat.beq mi 71 then 1 else 99) else (bif Nat.beq mi 72 then 1 else 99)) else (bif Nat.ble mi 73 then (bif Nat.beq mi 73 then 1 else 99) else (bif Nat.ble mi 74 then (bif Nat.beq mi 74 then 1 else 99) else (bif Nat.beq mi 75 then 1 else 99)))
def mw_rk_1_1_1 (mi : Nat) : Nat := bif Nat.ble mi 77 then (bif Nat.ble mi 76 then (bif Nat.beq mi 76 then 0 else 99) else (bif Nat.beq mi 77 then 1 else 99)) else (bif Nat.ble mi 78 then (bif Nat.beq mi 78 then 1 else 99) else (bif Nat.ble mi 79 then (bif Nat.beq mi 79 then 1 else 99) else (bif Nat.beq mi 80 then 1 else 99)))
def mw_rk_1_1 (mi : Nat) : Nat := bif Nat.ble mi 75 then (mw_rk_1_1_0 mi) else (mw_rk_1_1_1 mi)
def mw_rk_1_2_0 (mi : Nat) : Nat := bif Nat.ble mi 82 then (bif Nat.ble mi 81 then (bif Nat.beq mi 81 then 1 else 99) else (bif Nat.beq mi 82 then 1 else 99)) else (bif Nat.ble mi 83 then (bif Nat.beq mi 83 then 1 else 99) else (bif Nat.ble mi 84 then (bif Nat.beq mi 84 then 0 else 99) else (bif Nat.beq mi 85 then 0 else 99)))
def mw_rk_1_2_1 (mi : Nat) : Nat := bif Nat.ble mi 88 then (bif Nat.ble mi 86 then (bif Nat.beq mi 86 then 0 else 99) else (bif Nat.ble mi 87 then (bif Nat.beq mi 87 then 0 else 99) else (bif Nat.beq mi 88 then 0 else 99))) else (bif Nat.ble mi 89 then (bif Nat.beq mi 89 then 0 else 99) else (bif Nat.ble mi 90 then (bif Nat.beq mi 90 then 3 else 99) else (bif Nat.beq mi 91 then 0 else 99)))
def mw_rk_1_2 (mi : Nat) : Nat := bif Nat.ble mi 85 then (mw_rk_1_2_0 mi) else (mw_rk_1_2_1 mi)
def mw_rk_1_3_0 (mi : Nat) : Nat := bif Nat.ble mi 93 then (bif Nat.ble mi 92 then (bif Nat.beq mi 92 then 0 else 99) else (bif Nat.beq mi 93 then 1 else 99)) else (bif Nat.ble mi 94 then (bif Nat.beq mi 94 then 0 else 99) else (bif Nat.ble mi 95 then (bif Nat.beq mi 95 then 0 else 99) else (bif Nat.beq mi 96 then 0 else 99)))
def mw_rk_1_3_1 (mi : Nat) : Nat := bif Nat.ble mi 98 then (bif Nat.ble mi 97 then (bif Nat.beq mi 97 then 0 else 99) else (bif Nat.beq mi 98 then 0 else 99)) else (bif Nat.ble mi 99 then (bif Nat.beq mi 99 then 0 else 99) else (bif Nat.ble mi 100 then (bif Nat.beq mi 100 then 2 else 99) else (bif Nat.beq mi 101 then 2 else 99)))
def mw_rk_1_3 (mi : Nat) : Nat := bif Nat.ble mi 96 then (mw_rk_1_3_0 mi) else (mw_rk_1_3_1 mi)
def mw_rk_1_4_0 (mi : Nat) : Nat := bif Nat.ble mi 103 then (bif Nat.ble mi 102 then (bif Nat.beq mi 102 then 2 else 99) else (bif Nat.beq mi 103 then 1 else 99)) else (bif Nat.ble mi 104 then (bif Nat.beq mi 104 then 1 else 99) else (bif Nat.ble mi 105 then (bif Nat.beq mi 105 then 1 else 99) else (bif Nat.beq mi 106 then 0 else 99)))
def mw_rk_1_4_1 (mi : Nat) : Nat := bif Nat.ble mi 108 then (bif Nat.ble mi 107 then (bif Nat.beq mi 107 then 0 else 99) else (bif Nat.beq mi 108 then 0 else 99)) else (bif Nat.ble mi 109 then (bif Nat.beq mi 109 then 2 else 99) else (bif Nat.ble mi 110 then (bif Nat.beq mi 110 then 0 else 99) else (bif Nat.beq mi 111 then 0 else 99)))
def mw_rk_1_4 (mi : Nat) : Nat := bif Nat.ble mi 106 then (mw_rk_1_4_0 mi) else (mw_rk_1_4_1 mi)
def mw_rk_1_5_0 (mi : Nat) : Nat := bif Nat.ble mi 113 then (bif Nat.ble mi 112 then (bif Nat.beq mi 112 then 2 else 99) else (bif Nat.beq mi 113 then 1 else 99)) else (bif Nat.ble mi 114 then (bif Nat.beq mi 114 then 0 else 99) else (bif Nat.ble mi 115 then (bif Nat.beq mi 115 then 0 else 99) else (bif Nat.beq mi 116 then 0 else 99)))
def mw_rk_1_5_1 (mi : Nat) : Nat := bif Nat.ble mi 119 then (bif Nat.ble mi 117 then (bif Nat.beq mi 117 then 2 else 99) else (bif Nat.ble mi 118 then (bif Nat.beq mi 118 then 2 else 99) else (bif Nat.beq mi 119 then 0 else 99))) else (bif Nat.ble mi 120 then (bif Nat.beq mi 120 then 0 else 99) else (bif Nat.ble mi 121 then (bif Nat.beq mi 121 then 0 else 99) else (bif Nat.beq mi 122 then 0 else 99)))
def mw_rk_1_5 (mi : Nat) : Nat := bif Nat.ble mi 116 then (mw_rk_1_5_0 mi) else (mw_rk_1_5_1 mi)
def mw_rk_1 (mi : Nat) : Nat := bif Nat.ble mi 91 then (bif Nat.ble mi 70 then (mw_rk_1_0 mi) else (bif Nat.ble mi 80 then (mw_rk_1_1 mi) else (mw_rk_1_2 mi))) else (bif Nat.ble mi 101 then (mw_rk_1_3 mi) else (bif Nat.ble mi 111 then (mw_rk_1_4 mi) else (mw_rk_1_5 mi)))
def mw_rk_2_0_0 (mi : Nat) : Nat := bif Nat.ble mi 124 then (bif Nat.ble mi 123 then (bif Nat.beq mi 123 then 0 else 99) else (bif Nat.beq mi 124 then 0 else 99)) else (bif Nat.ble mi 125 then (bif Nat.beq mi 125 then 2 else 99) else (bif Nat.ble mi 126 then (bif Nat.beq mi 126 then 1 else 99) else (bif Nat.beq mi 127 then 0 else 99)))
def mw_rk_2_0_1 (mi : Nat) : Nat := bif Nat.ble mi 129 then (bif Nat.ble mi 128 then (bif Nat.beq mi 128 then 0 else 99) else (bif Nat.beq mi 129 then 0 else 99)) else (bif Nat.ble mi 130 then (bif Nat.beq mi 130 then 1 else 99) else (bif Nat.ble mi 131 then (bif Nat.beq mi 131 then 0 else 99) else (bif Nat.beq mi 132 then 0 else 99)))
def mw_rk_2_0 (mi : Nat) : Nat := bif Nat.ble mi 127 then (mw_rk_2_0_0 mi) else (mw_rk_2_0_1 mi)
def mw_rk_2_1_0 (mi : Nat) : Nat := bif Nat.ble mi 134 then (bif Nat.ble mi 133 then (bif Nat.beq mi 133 then 1 else 99) else (bif Nat.beq mi 134 then 1 else 99)) else (bif Nat.ble mi 135 then (bif Nat.beq mi 135 then 0 else 99) else (bif Nat.ble mi 136 then (bif Nat.beq mi 136 then 0 else 99) else (bif Nat.beq mi 137 then 0 else 99)))
def mw_rk_2_1_1 (mi : Nat) : Nat := bif Nat.ble mi 139 then (bif Nat.ble mi 138 then (bif Nat.beq mi 138 then 0 else 99) else (bif Nat.beq mi 139 then 0 else 99)) else (bif Nat.ble mi 140 then (bif Nat.beq mi 140 then 0 else 99) else (bif Nat.ble mi 141 then (bif Nat.beq mi 141 then 0 else 99) else (bif Nat.beq mi 142 then 0 else 99)))
def mw_rk_2_1 (mi : Nat) : Nat := bif Nat.ble mi 137 then (mw_rk_2_1_0 mi) else (mw_rk_2_1_1 mi)
def mw_rk_2_2_0 (mi : Nat) : Nat := bif Nat.ble mi 144 then (bif Nat.ble mi 143 then (bif Nat.beq mi 143 then 0 else 99) else (bif Nat.beq mi 144 then 0 else 99)) else (bif Nat.ble mi 145 then (bif Nat.beq mi 145 then 0 else 99) else (bif Nat.ble mi 146 then (bif Nat.beq mi 146 then 0 else 99) else (bif Nat.beq mi 147 then 0 else 99)))
def mw_rk_2_2_1 (mi : Nat) : Nat := bif Nat.ble mi 149 then (bif Nat.ble mi 148 then (bif Nat.beq mi 148 then 0 else 99) else (bif Nat.beq mi 149 then 1 else 99)) else (bif Nat.ble mi 150 then (bif Nat.beq mi 150 then 1 else 99) else (bif Nat.ble mi 151 then (bif Nat.beq mi 151 then 0 else 99) else (bif Nat.beq mi 152 then 0 else 99)))
def mw_rk_2_2 (mi : Nat) : Nat := bif Nat.ble mi 147 then (mw_rk_2_2_0 mi) else (mw_rk_2_2_1 mi)
def mw_rk_2_3_0 (mi : Nat) : Nat := bif Nat.ble mi 154 then (bif Nat.ble mi 153 then (bif Nat.beq mi 153 then 0 else 99) else (bif Nat.beq mi 154 then 0 else 99)) else (bif Nat.ble mi 155 then (bif Nat.beq mi 155 then 0 else 99) else (bif Nat.ble mi 156 then (bif Nat.beq mi 156 then 1 else 99) else (bif Nat.beq mi 157 then 2 else 99)))
def mw_rk_2_3_1 (mi : Nat) : Nat := bif Nat.ble mi 159 then (bif Nat.ble mi 158 then (bif Nat.beq mi 158 then 0 else 99) else (bif Nat.beq mi 159 then 1 else 99)) else (bif Nat.ble mi 160 then (bif Nat.beq mi 160 then 0 else 99) else (bif Nat.ble mi 161 then (bif Nat.beq mi 161 then 0 else 99) else (bif Nat.beq mi 162 then 2 else 99)))
def mw_rk_2_3 (mi : Nat) : Nat := bif Nat.ble mi 157 then (mw_rk_2_3_0 mi) else (mw_rk_2_3_1 mi)
def mw_rk_2_4_0 (mi : Nat) : Nat := bif Nat.ble mi 164 then (bif Nat.ble mi 163 then (bif Nat.beq mi 163 then 1 else 99) else (bif Nat.beq mi 164 then 0 else 99)) else (bif Nat.ble mi 165 then (bif Nat.beq mi 165 then 2 else 99) else (bif Nat.ble mi 166 then (bif Nat.beq mi 166 then 2 else 99) else (bif Nat.beq mi 167 then 0 else 99)))
def mw_rk_2_4_1 (mi : Nat) : Nat := bif Nat.ble mi 169 then (bif Nat.ble mi 168 then (bif Nat.beq mi 168 then 0 else 99) else (bif Nat.beq mi 169 then 0 else 99)) else (bif Nat.ble mi 170 then (bif Nat.beq mi 170 then 1 else 99) else (bif Nat.ble mi 171 then (bif Nat.beq mi 171 then 0 else 99) else (bif Nat.beq mi 172 then 0 else 99)))
def mw_rk_2_4 (mi : Nat) : Nat := bif Nat.ble mi 167 then (mw_rk_2_4_0 mi) else (mw_rk_2_4_1 mi)
def mw_rk_2_5_0 (mi : Nat) : Nat := bif Nat.ble mi 174 then (bif Nat.ble mi 173 then (bif Nat.beq mi 173 then 0 else 99) else (bif Nat.beq mi 174 then 0 else 99)) else (bif Nat.ble mi 175 then (bif Nat.beq mi 175 then 1 else 99) else (bif Nat.ble mi 176 then (bif Nat.beq mi 176 then 0 else 99) else (bif Nat.beq mi 177 then 0 else 99)))
def mw_rk_2_5_1 (mi : Nat) : Nat := bif Nat.ble mi 180 then (bif Nat.ble mi 178 then (bif Nat.beq mi 178 then 0 else 99) else (bif Nat.ble mi 179 then (bif Nat.beq mi 179 then 0 else 99) else (bif Nat.beq mi 180 then 0 else 99))) else (bif Nat.ble mi 181 then (bif Nat.beq mi 181 then 0 else 99) else (bif Nat.ble mi 182 then (bif Nat.beq mi 182 then 0 else 99) else (bif Nat.beq mi 183 then 0 else 99)))
def mw_rk_2_5 (mi : Nat) : Nat := bif Nat.ble mi 177 then (mw_rk_2_5_0 mi) else (mw_rk_2_5_1 mi)
def mw_rk_2 (mi : Nat) : Nat := bif Nat.ble mi 152 then (bif Nat.ble mi 132 then (mw_rk_2_0 mi) else (bif Nat.ble mi 142 then (mw_rk_2_1 mi) else (mw_rk_2_2 mi))) else (bif Nat.ble mi 162 then (mw_rk_2_3 mi) else (bif Nat.ble mi 172 then (mw_rk_2_4 mi) else (mw_rk_2_5 mi)))
def mw_rk_3_0_0 (mi : Nat) : Nat := bif Nat.ble mi 185 then (bif Nat.ble mi 184 then (bif Nat.beq mi 184 then 0 else 99) else (bif Nat.beq mi 185 then 0 else 99)) else (bif Nat.ble mi 186 then (bif Nat.beq mi 186 then 0 else 99) else (bif Nat.ble mi 187 then (bif Nat.beq mi 187 then 0 else 99) else (bif Nat.beq mi 188 then 2 else 99)))
def mw_rk_3_0_1 (mi : Nat) : Nat := bif Nat.ble mi 190 then (bif Nat.ble mi 189 then (bif Nat.beq mi 189 then 0 else 99) else (bif Nat.beq mi 190 then 0 else 99)) else (bif Nat.ble mi 191 then (bif Nat.beq mi 191 then 2 else 99) else (bif Nat.ble mi 192 then (bif Nat.beq mi 192 then 0 else 99) else (bif Nat.beq mi 193 then 1 else 99)))
def mw_rk_3_0 (mi : Nat) : Nat := bif Nat.ble mi 188 then (mw_rk_3_0_0 mi) else (mw_rk_3_0_1 mi)
def mw_rk_3_1_0 (mi : Nat) : Nat := bif Nat.ble mi 195 then (bif Nat.ble mi 194 then (bif Nat.beq mi 194 then 0 else 99) else (bif Nat.beq mi 195 then 0 else 99)) else (bif Nat.ble mi 196 then (bif Nat.beq mi 196 then 1 else 99) else (bif Nat.ble mi 197 then (bif Nat.beq mi 197 then 1 else 99) else (bif Nat.beq mi 198 then 2 else 99)))
def mw_rk_3_1_1 (mi : Nat) : Nat := bif Nat.ble mi 200 then (bif Nat.ble mi 199 then (bif Nat.beq mi 199 then 2 else 99) else (bif Nat.beq mi 200 then 2 else 99)) else (bif Nat.ble mi 201 then (bif Nat.beq mi 201 then 1 else 99) else (bif Nat.ble mi 202 then (bif Nat.beq mi 202 then 0 else 99) else (bif Nat.beq mi 203 then 0 else 99)))
def mw_rk_3_1 (mi : Nat) : Nat := bif Nat.ble mi 198 then (mw_rk_3_1_0 mi) else (mw_rk_3_1_1 mi)
def mw_rk_3_2_0 (mi : Nat) : Nat := bif Nat.ble mi 205 then (bif Nat.ble mi 204 then (bif Nat.beq mi 204 then 2 else 99) else (bif Nat.beq mi 205 then 0 else 99)) else (bif Nat.ble mi 206 then (bif Nat.beq mi 206 then 1 else 99) else (bif Nat.ble mi 207 then (bif Nat.beq mi 207 then 2 else 99) else (bif Nat.beq mi 208 then 2 else 99)))
def mw_rk_3_2_1 (mi : Nat) : Nat := bif Nat.ble mi 211 then (bif Nat.ble mi 209 then (bif Nat.beq mi 209 then 2 else 99) else (bif Nat.ble mi 210 then (bif Nat.beq mi 210 then 3 else 99) else (bif Nat.beq mi 211 then 0 else 99))) else (bif Nat.ble mi 212 then (bif Nat.beq mi 212 then 0 else 99) else (bif Nat.ble mi 213 then (bif Nat.beq mi 213 then 0 else 99) else (bif Nat.beq mi 214 then 3 else 99)))
def mw_rk_3_2 (mi : Nat) : Nat := bif Nat.ble mi 208 then (mw_rk_3_2_0 mi) else (mw_rk_3_2_1 mi)
def mw_rk_3_3_0 (mi : Nat) : Nat := bif Nat.ble mi 216 then (bif Nat.ble mi 215 then (bif Nat.beq mi 215 then 0 else 99) else (bif Nat.beq mi 216 then 1 else 99)) else (bif Nat.ble mi 217 then (bif Nat.beq mi 217 then 0 else 99) else (bif Nat.ble mi 218 then (bif Nat.beq mi 218 then 1 else 99) else (bif Nat.beq mi 219 then 0 else 99)))
def mw_rk_3_3_1 (mi : Nat) : Nat := bif Nat.ble mi 221 then (bif Nat.ble mi 220 then (bif Nat.beq mi 220 then 2 else 99) else (bif Nat.beq mi 221 then 2 else 99)) else (bif Nat.ble mi 222 then (bif Nat.beq mi 222 then 0 else 99) else (bif Nat.ble mi 223 then (bif Nat.beq mi 223 then 0 else 99) else (bif Nat.beq mi 224 then 0 else 99)))
def mw_rk_3_3 (mi : Nat) : Nat := bif Nat.ble mi 219 then (mw_rk_3_3_0 mi) else (mw_rk_3_3_1 mi)
def mw_rk_3_4_0 (mi : Nat) : Nat := bif Nat.ble mi 226 then (bif Nat.ble mi 225 then (bif Nat.beq mi 225 then 2 else 99) else (bif Nat.beq mi 226 then 2 else 99)) else (bif Nat.ble mi 227 then (bif Nat.beq mi 227 then 1 else 99) else (bif Nat.ble mi 228 then (bif Nat.beq mi 228 then 0 else 99) else (bif Nat.beq mi 229 then 1 else 99)))
def mw_rk_3_4_1 (mi : Nat) : Nat := bif Nat.ble mi 231 then (bif Nat.ble mi 230 then (bif Nat.beq mi 230 then 1 else 99) else (bif Nat.beq mi 231 then 1 else 99)) else (bif Nat.ble mi 232 then (bif Nat.beq mi 232 then 1 else 99) else (bif Nat.ble mi 233 then (bif Nat.beq mi 233 then 2 else 99) else (bif Nat.beq mi 234 then 2 else 99)))
def mw_rk_3_4 (mi : Nat) : Nat := bif Nat.ble mi 229 then (mw_rk_3_4_0 mi) else (mw_rk_3_4_1 mi)
def mw_rk_3_5_0 (mi : Nat) : Nat := bif Nat.ble mi 236 then (bif Nat.ble mi 235 then (bif Nat.beq mi 235 then 2 else 99) else (bif Nat.beq mi 236 then 2 else 99)) else (bif Nat.ble mi 237 then (bif Nat.beq mi 237 then 1 else 99) else (bif Nat.ble mi 238 then (bif Nat.beq mi 238 then 1 else 99) else (bif Nat.beq mi 239 then 1 else 99)))
def mw_rk_3_5_1 (mi : Nat) : Nat := bif Nat.ble mi 242 then (bif Nat.ble mi 240 then (bif Nat.beq mi 240 then 1 else 99) else (bif Nat.ble mi 241 then (bif Nat.beq mi 241 then 1 else 99) else (bif Nat.beq mi 242 then 1 else 99))) else (bif Nat.ble mi 243 then (bif Nat.beq mi 243 then 1 else 99) else (bif Nat.ble mi 244 then (bif Nat.beq mi 244 then 1 else 99) else (bif Nat.beq mi 245 then 1 else 99)))
def mw_rk_3_5 (mi : Nat) : Nat := bif Nat.ble mi 239 then (mw_rk_3_5_0 mi) else (mw_rk_3_5_1 mi)
def mw_rk_3 (mi : Nat) : Nat := bif Nat.ble mi 214 then (bif Nat.ble mi 193 then (mw_rk_3_0 mi) else (bif Nat.ble mi 203 then (mw_rk_3_1 mi) else (mw_rk_3_2 mi))) else (bif Nat.ble mi 224 then (mw_rk_3_3 mi) else (bif Nat.ble mi 234 then (mw_rk_3_4 mi) else (mw_rk_3_5 mi)))
def mw_rk_4_0_0 (mi : Nat) : Nat := bif Nat.ble mi 247 then (bif Nat.ble mi 246 then (bif Nat.beq mi 246 then 1 else 99) else (bif Nat.beq mi 247 then 0 else 99)) else (bif Nat.ble mi 248 then (bif Nat.beq mi 248 then 1 else 99) else (bif Nat.ble mi 249 then (bif Nat.beq mi 249 then 0 else 99) else (bif Nat.beq mi 250 then 1 else 99)))
def mw_rk_4_0_1 (mi : Nat) : Nat := bif Nat.ble mi 252 then (bif Nat.ble mi 251 then (bif Nat.beq mi 251 then 1 else 99) else (bif Nat.beq mi 252 then 1 else 99)) else (bif Nat.ble mi 253 then (bif Nat.beq mi 253 then 0 else 99) else (bif Nat.ble mi 254 then (bif Nat.beq mi 254 then 1 else 99) else (bif Nat.beq mi 255 then 1 else 99)))
def mw_rk_4_0 (mi : Nat) : Nat := bif Nat.ble mi 250 then (mw_rk_4_0_0 mi) else (mw_rk_4_0_1 mi)
def mw_rk_4_1_0 (mi : Nat) : Nat := bif Nat.ble mi 257 then (bif Nat.ble mi 256 then (bif Nat.beq mi 256 then 1 else 99) else (bif Nat.beq mi 257 then 1 else 99)) else (bif Nat.ble mi 258 then (bif Nat.beq mi 258 then 1 else 99) else (bif Nat.ble mi 259 then (bif Nat.beq mi 259 then 1 else 99) else (bif Nat.beq mi 260 then 2 else 99)))
def mw_rk_4_1_1 (mi : Nat) : Nat := bif Nat.ble mi 262 then (bif Nat.ble mi 261 then (bif Nat.beq mi 261 then 0 else 99) else (bif Nat.beq mi 262 then 0 else 99)) else (bif Nat.ble mi 263 then (bif Nat.beq mi 263 then 0 else 99) else (bif Nat.ble mi 264 then (bif Nat.beq mi 264 then 0 else 99) else (bif Nat.beq mi 265 then 0 else 99)))
def mw_rk_4_1 (mi : Nat) : Nat := bif Nat.ble mi 260 then (mw_rk_4_1_0 mi) else (mw_rk_4_1_1 mi)
def mw_rk_4_2_0 (mi : Nat) : Nat := bif Nat.ble mi 267 then (bif Nat.ble mi 266 then (bif Nat.beq mi 266 then 0 else 99) else (bif Nat.beq mi 267 then 2 else 99)) else (bif Nat.ble mi 268 then (bif Nat.beq mi 268 then 1 else 99) else (bif Nat.ble mi 269 then (bif Nat.beq mi 269 then 0 else 99) else (bif Nat.beq mi 270 then 0 else 99)))
def mw_rk_4_2_1 (mi : Nat) : Nat := bif Nat.ble mi 272 then (bif Nat.ble mi 271 then (bif Nat.beq mi 271 then 1 else 99) else (bif Nat.beq mi 272 then 1 else 99)) else (bif Nat.ble mi 273 then (bif Nat.beq mi 273 then 1 else 99) else (bif Nat.ble mi 274 then (bif Nat.beq mi 274 then 1 else 99) else (bif Nat.beq mi 275 then 2 else 99)))
def mw_rk_4_2 (mi : Nat) : Nat := bif Nat.ble mi 270 then (mw_rk_4_2_0 mi) else (mw_rk_4_2_1 mi)
def mw_rk_4_3_0 (mi : Nat) : Nat := bif Nat.ble mi 277 then (bif Nat.ble mi 276 then (bif Nat.beq mi 276 then 0 else 99) else (bif Nat.beq mi 277 then 2 else 99)) else (bif Nat.ble mi 278 then (bif Nat.beq mi 278 then 2 else 99) else (bif Nat.ble mi 279 then (bif Nat.beq mi 279 then 1 else 99) else (bif Nat.beq mi 280 then 0 else 99)))
def mw_rk_4_3_1 (mi : Nat) : Nat := bif Nat.ble mi 282 then (bif Nat.ble mi 281 then (bif Nat.beq mi 281 then 0 else 99) else (bif Nat.beq mi 282 then 0 else 99)) else (bif Nat.ble mi 283 then (bif Nat.beq mi 283 then 0 else 99) else (bif Nat.ble mi 284 then (bif Nat.beq mi 284 then 0 else 99) else (bif Nat.beq mi 285 then 2 else 99)))
def mw_rk_4_3 (mi : Nat) : Nat := bif Nat.ble mi 280 then (mw_rk_4_3_0 mi) else (mw_rk_4_3_1 mi)
def mw_rk_4_4_0 (mi : Nat) : Nat := bif Nat.ble mi 287 then (bif Nat.ble mi 286 then (bif Nat.beq mi 286 then 0 else 99) else (bif Nat.beq mi 287 then 0 else 99)) else (bif Nat.ble mi 288 then (bif Nat.beq mi 288 then 2 else 99) else (bif Nat.ble mi 289 then (bif Nat.beq mi 289 then 0 else 99) else (bif Nat.beq mi 290 then 0 else 99)))
def mw_rk_4_4_1 (mi : Nat) : Nat := bif Nat.ble mi 292 then (bif Nat.ble mi 291 then (bif Nat.beq mi 291 then 2 else 99) else (bif Nat.beq mi 292 then 0 else 99)) else (bif Nat.ble mi 293 then (bif Nat.beq mi 293 then 0 else 99) else (bif Nat.ble mi 294 then (bif Nat.beq mi 294 then 2 else 99) else (bif Nat.beq mi 295 then 0 else 99)))
def mw_rk_4_4 (mi : Nat) : Nat := bif Nat.ble mi 290 then (mw_rk_4_4_0 mi) else (mw_rk_4_4_1 mi)
def mw_rk_4_5_0 (mi : Nat) : Nat := bif Nat.ble mi 297 then (bif Nat.ble mi 296 then (bif Nat.beq mi 296 then 0 else 99) else (bif Nat.beq mi 297 then 1 else 99)) else (bif Nat.ble mi 298 then (bif Nat.beq mi 298 then 0 else 99) else (bif Nat.ble mi 299 then (bif Nat.beq mi 299 then 0 else 99) else (bif Nat.beq mi 300 then 0 else 99)))
def mw_rk_4_5_1 (mi : Nat) : Nat := bif Nat.ble mi 303 then (bif Nat.ble mi 301 then (bif Nat.beq mi 301 then 1 else 99) else (bif Nat.ble mi 302 then (bif Nat.beq mi 302 then 0 else 99) else (bif Nat.beq mi 303 then 0 else 99))) else (bif Nat.ble mi 304 then (bif Nat.beq mi 304 then 0 else 99) else (bif Nat.ble mi 305 then (bif Nat.beq mi 305 then 0 else 99) else (bif Nat.beq mi 306 then 0 else 99)))
def mw_rk_4_5 (mi : Nat) : Nat := bif Nat.ble mi 300 then (mw_rk_4_5_0 mi) else (mw_rk_4_5_1 mi)
def mw_rk_4 (mi : Nat) : Nat := bif Nat.ble mi 275 then (bif Nat.ble mi 255 then (mw_rk_4_0 mi) else (bif Nat.ble mi 265 then (mw_rk_4_1 mi) else (mw_rk_4_2 mi))) else (bif Nat.ble mi 285 then (mw_rk_4_3 mi) else (bif Nat.ble mi 295 then (mw_rk_4_4 mi) else (mw_rk_4_5 mi)))
def mw_rk_5_0_0 (mi : Nat) : Nat := bif Nat.ble mi 308 then (bif Nat.ble mi 307 then (bif Nat.beq mi 307 then 0 else 99) else (bif Nat.beq mi 308 then 0 else 99)) else (bif Nat.ble mi 309 then (bif Nat.beq mi 309 then 0 else 99) else (bif Nat.ble mi 310 then (bif Nat.beq mi 310 then 0 else 99) else (bif Nat.beq mi 311 then 0 else 99)))
def mw_rk_5_0_1 (mi : Nat) : Nat := bif Nat.ble mi 313 then (bif Nat.ble mi 312 then (bif Nat.beq mi 312 then 0 else 99) else (bif Nat.beq mi 313 then 1 else 99)) else (bif Nat.ble mi 314 then (bif Nat.beq mi 314 then 0 else 99) else (bif Nat.ble mi 315 then (bif Nat.beq mi 315 then 1 else 99) else (bif Nat.beq mi 316 then 0 else 99)))
def mw_rk_5_0 (mi : Nat) : Nat := bif Nat.ble mi 311 then (mw_rk_5_0_0 mi) else (mw_rk_5_0_1 mi)
def mw_rk_5_1_0 (mi : Nat) : Nat := bif Nat.ble mi 318 then (bif Nat.ble mi 317 then (bif Nat.beq mi 317 then 0 else 99) else (bif Nat.beq mi 318 then 2 else 99)) else (bif Nat.ble mi 319 then (bif Nat.beq mi 319 then 1 else 99) else (bif Nat.ble mi 320 then (bif Nat.beq mi 320 then 1 else 99) else (bif Nat.beq mi 321 then 0 else 99)))
def mw_rk_5_1_1 (mi : Nat) : Nat := bif Nat.ble mi 323 then (bif Nat.ble mi 322 then (bif Nat.beq mi 322 then 1 else 99) else (bif Nat.beq mi 323 then 0 else 99)) else (bif Nat.ble mi 324 then (bif Nat.beq mi 324 then 0 else 99) else (bif Nat.ble mi 325 then (bif Nat.beq mi 325 then 0 else 99) else (bif Nat.beq mi 326 then 0 else 99)))
def mw_rk_5_1 (mi : Nat) : Nat := bif Nat.ble mi 321 then (mw_rk_5_1_0 mi) else (mw_rk_5_1_1 mi)
def mw_rk_5_2_0 (mi : Nat) : Nat := bif Nat.ble mi 328 then (bif Nat.ble mi 327 then (bif Nat.beq mi 327 then 0 else 99) else (bif Nat.beq mi 328 then 0 else 99)) else (bif Nat.ble mi 329 then (bif Nat.beq mi 329 then 0 else 99) else (bif Nat.ble mi 330 then (bif Nat.beq mi 330 then 0 else 99) else (bif Nat.beq mi 331 then 0 else 99)))
def mw_rk_5_2_1 (mi : Nat) : Nat := bif Nat.ble mi 334 then (bif Nat.ble mi 332 then (bif Nat.beq mi 332 then 2 else 99) else (bif Nat.ble mi 333 then (bif Nat.beq mi 333 then 0 else 99) else (bif Nat.beq mi 334 then 0 else 99))) else (bif Nat.ble mi 335 then (bif Nat.beq mi 335 then 0 else 99) else (bif Nat.ble mi 336 then (bif Nat.beq mi 336 then 0 else 99) else (bif Nat.beq mi 337 then 0 else 99)))
def mw_rk_5_2 (mi : Nat) : Nat := bif Nat.ble mi 331 then (mw_rk_5_2_0 mi) else (mw_rk_5_2_1 mi)
def mw_rk_5_3_0 (mi : Nat) : Nat := bif Nat.ble mi 339 then (bif Nat.ble mi 338 then (bif Nat.beq mi 338 then 2 else 99) else (bif Nat.beq mi 339 then 2 else 99)) else (bif Nat.ble mi 340 then (bif Nat.beq mi 340 then 2 else 99) else (bif Nat.ble mi 341 then (bif Nat.beq mi 341 then 0 else 99) else (bif Nat.beq mi 342 then 0 else 99)))
def mw_rk_5_3_1 (mi : Nat) : Nat := bif Nat.ble mi 344 then (bif Nat.ble mi 343 then (bif Nat.beq mi 343 then 0 else 99) else (bif Nat.beq mi 344 then 0 else 99)) else (bif Nat.ble mi 345 then (bif Nat.beq mi 345 then 0 else 99) else (bif Nat.ble mi 346 then (bif Nat.beq mi 346 then 2 else 99) else (bif Nat.beq mi 347 then 1 else 99)))
def mw_rk_5_3 (mi : Nat) : Nat := bif Nat.ble mi 342 then (mw_rk_5_3_0 mi) else (mw_rk_5_3_1 mi)
def mw_rk_5_4_0 (mi : Nat) : Nat := bif Nat.ble mi 349 then (bif Nat.ble mi 348 then (bif Nat.beq mi 348 then 1 else 99) else (bif Nat.beq mi 349 then 0 else 99)) else (bif Nat.ble mi 350 then (bif Nat.beq mi 350 then 1 else 99) else (bif Nat.ble mi 351 then (bif Nat.beq mi 351 then 2 else 99) else (bif Nat.beq mi 352 then 1 else 99)))
def mw_rk_5_4_1 (mi : Nat) : Nat := bif Nat.ble mi 354 then (bif Nat.ble mi 353 then (bif Nat.beq mi 353 then 1 else 99) else (bif Nat.beq mi 354 then 1 else 99)) else (bif Nat.ble mi 355 then (bif Nat.beq mi 355 then 1 else 99) else (bif Nat.ble mi 356 then (bif Nat.beq mi 356 then 1 else 99) else (bif Nat.beq mi 357 then 2 else 99)))
def mw_rk_5_4 (mi : Nat) : Nat := bif Nat.ble mi 352 then (mw_rk_5_4_0 mi) else (mw_rk_5_4_1 mi)
def mw_rk_5_5_0 (mi : Nat) : Nat := bif Nat.ble mi 359 then (bif Nat.ble mi 358 then (bif Nat.beq mi 358 then 1 else 99) else (bif Nat.beq mi 359 then 1 else 99)) else (bif Nat.ble mi 360 then (bif Nat.beq mi 360 then 1 else 99) else (bif Nat.ble mi 361 then (bif Nat.beq mi 361 then 1 else 99) else (bif Nat.beq mi 362 then 1 else 99)))
def mw_rk_5_5_1 (mi : Nat) : Nat := bif Nat.ble mi 365 then (bif Nat.ble mi 363 then (bif Nat.beq mi 363 then 1 else 99) else (bif Nat.ble mi 364 then (bif Nat.beq mi 364 then 1 else 99) else (bif Nat.beq mi 365 then 1 else 99))) else (bif Nat.ble mi 366 then (bif Nat.beq mi 366 then 1 else 99) else (bif Nat.ble mi 367 then (bif Nat.beq mi 367 then 1 else 99) else (bif Nat.beq mi 368 then 3 else 99)))
def mw_rk_5_5 (mi : Nat) : Nat := bif Nat.ble mi 362 then (mw_rk_5_5_0 mi) else (mw_rk_5_5_1 mi)
def mw_rk_5 (mi : Nat) : Nat := bif Nat.ble mi 337 then (bif Nat.ble mi 316 then (mw_rk_5_0 mi) else (bif Nat.ble mi 326 then (mw_rk_5_1 mi) else (mw_rk_5_2 mi))) else (bif Nat.ble mi 347 then (mw_rk_5_3 mi) else (bif Nat.ble mi 357 then (mw_rk_5_4 mi) else (mw_rk_5_5 mi)))
def mw_rk (mi : Nat) : Nat := bif Nat.ble mi 183 then (bif Nat.ble mi 60 then (mw_rk_0 mi) else (bif Nat.ble mi 122 then (mw_rk_1 mi) else (mw_rk_2 mi))) else (bif Nat.ble mi 245 then (mw_rk_3 mi) else (bif Nat.ble mi 306 then (mw_rk_4 mi) else (mw_rk_5 mi)))
def mw_ml_0 (cn : Nat) : List (Nat × Nat × Nat × Nat) := bif Nat.ble cn 1 then (bif Nat.beq cn 1 then [(5, 0, 0, 0), (114, 7, 0, 0), (130, 5, 0, 0), (147, 91, 0, 0), (155, 11, 0, 0), (159, 109, 0, 0), (163, 126, 0, 0), (170, 13, 0, 0), (174, 19, 0, 0), (180, 156, 0, 0), (190, 149, 1, 0), (205, 8, 0, 0), (211, 6, 0, 0), (249, 164, 0, 0), (252, 168, 0, 0), (256, 191, 0, 0), (260, 173, 0, 0), (268, 178, 0, 0), (277, 171, 0, 0), (281, 165, 0, 0), (287, 166, 0, 0), (290, 167, 0, 0), (292, 22, 0, 0), (297, 23, 0, 0), (300, 26, 0, 0), (311, 170, 1, 0), (327, 28, 0, 0), (352, 193, 0, 0), (355, 367, 0, 0)] else []) else (bif Nat.beq cn 4 then [(32, 36, 0, 0), (45, 37, 0, 0), (56, 38, 0, 0), (60, 95, 0, 0), (63, 39, 0, 0), (66, 100, 0, 0), (70, 40, 0, 0), (74, 101, 0, 0), (83, 0, 1, 0), (86, 94, 0, 0), (95, 45, 0, 0), (127, 50, 0, 0), (131, 48, 0, 0), (135, 53, 0, 0), (139, 51, 0, 0), (152, 47, 0, 0), (186, 54, 0, 0), (190, 60, 0, 0), (200, 35, 0, 0), (210, 57, 0, 0), (217, 55, 0, 0), (220, 41, 0, 0), (223, 67, 0, 0), (236, 61, 0, 0), (240, 56, 0, 0), (243, 58, 0, 0), (258, 59, 0, 0), (262, 62, 0, 0), (282, 65, 0, 0), (285, 68, 0, 0), (288, 66, 0, 0), (294, 46, 0, 0), (303, 71, 0, 0), (306, 72, 0, 0), (309, 75, 0, 0), (312, 70, 0, 0), (318, 43, 0, 0), (322, 44, 0, 0), (325, 49, 0, 0), (328, 69, 0, 0), (331, 73, 0, 0), (343, 63, 0, 0), (346, 64, 0, 0), (358, 74, 0, 0), (381, 77, 0, 0), (384, 78, 0, 0), (387, 79, 0, 0), (390, 81, 0, 0), (393, 80, 0, 0), (396, 83, 0, 0), (402, 76, 0, 0), (412, 42, 0, 0), (437, 82, 0, 0), (443, 84, 0, 0), (452, 52, 0, 0), (459, 85, 0, 0), (499, 34, 0, 0), (504, 90, 0, 0), (508, 89, 0, 0), (514, 92, 0, 0), (519, 86, 0, 0), (525, 87, 0, 0), (528, 88, 0, 0)] else [])
def mw_ml_1 (cn : Nat) : List (Nat × Nat × Nat × Nat) := bif Nat.ble cn 5 then (bif Nat.beq cn 5 then [(36, 94, 0, 0), (42, 33, 0, 0), (57, 93, 0, 0), (64, 95, 0, 0), (73, 2, 1, 0), (77, 96, 0, 0), (80, 3, 1, 0), (83, 97, 0, 0), (86, 1, 1, 0), (89, 98, 0, 0), (92, 99, 0, 0), (129, 4, 1, 0)] else []) else (bif Nat.ble cn 6 then (bif Nat.beq cn 6 then [(38, 103, 0, 0), (48, 102, 0, 0), (52, 366, 0, 0), (60, 368, 0, 0), (72, 104, 0, 0), (79, 107, 0, 0), (83, 106, 0, 0), (101, 105, 0, 0), (104, 108, 0, 0)] else []) else (bif Nat.beq cn 7 then [(48, 367, 0, 0), (91, 112, 0, 0), (98, 113, 0, 0), (108, 115, 0, 0), (118, 57, 1, 0), (124, 58, 1, 0), (130, 111, 0, 0), (134, 116, 0, 0), (150, 110, 0, 0), (158, 114, 0, 0), (161, 117, 0, 0), (165, 118, 0, 0), (168, 121, 0, 0), (171, 120, 0, 0), (174, 119, 0, 0), (178, 123, 0, 0), (187, 122, 0, 0), (202, 124, 0, 0), (209, 125, 0, 0)] else []))
def mw_ml_2 (cn : Nat) : List (Nat × Nat × Nat × Nat) := bif Nat.ble cn 8 then (bif Nat.beq cn 8 then [(43, 129, 0, 0), (47, 127, 0, 0), (59, 133, 0, 0), (112, 137, 0, 0), (119, 128, 0, 0), (125, 134, 0, 0), (132, 138, 0, 0), (135, 136, 0, 0), (138, 139, 0, 0), (147, 130, 0, 0), (150, 132, 0, 0), (153, 131, 0, 0), (156, 102, 0, 0), (162, 140, 0, 0), (165, 141, 0, 0), (168, 144, 0, 0), (171, 145, 0, 0), (174, 142, 0, 0), (180, 146, 0, 0), (183, 151, 0, 0), (186, 148, 0, 0), (189, 147, 0, 0), (192, 154, 0, 0), (195, 143, 0, 0), (198, 366, 0, 0), (204, 135, 0, 0), (240, 150, 0, 0), (243, 152, 0, 0), (249, 149, 0, 0), (252, 153, 0, 0), (259, 155, 0, 0), (268, 157, 0, 0), (275, 160, 0, 0), (279, 158, 0, 0), (282, 159, 0, 0)] else []) else (bif Nat.ble cn 11 then (bif Nat.beq cn 11 then [(41, 192, 0, 0), (60, 169, 0, 0), (94, 194, 0, 0), (116, 172, 0, 0), (119, 195, 0, 0), (122, 196, 0, 0), (126, 175, 0, 0), (129, 180, 0, 0), (132, 179, 0, 0), (136, 173, 0, 0), (139, 174, 0, 0), (142, 176, 0, 0), (145, 181, 0, 0), (149, 0, 1, 0), (153, 177, 0, 0), (156, 182, 0, 0), (159, 171, 0, 0), (162, 170, 0, 0), (165, 183, 0, 0), (168, 185, 0, 0), (171, 186, 0, 0), (174, 189, 0, 0), (177, 190, 0, 0), (181, 162, 0, 0), (187, 163, 0, 0), (188, 184, 0, 0), (191, 166, 0, 0), (199, 167, 0, 0), (202, 161, 0, 0), (208, 187, 0, 0), (211, 188, 0, 0)] else []) else (bif Nat.beq cn 13 then [(282, 199, 0, 0), (286, 200, 0, 0), (293, 198, 0, 0), (306, 207, 0, 0), (309, 209, 0, 0), (322, 212, 0, 0), (325, 206, 0, 0), (335, 213, 0, 0), (338, 208, 0, 0), (341, 215, 0, 0), (344, 217, 0, 0), (347, 219, 0, 0), (357, 210, 0, 0), (373, 216, 0, 0), (388, 218, 0, 0), (397, 204, 0, 0), (401, 203, 0, 0), (411, 230, 0, 0), (421, 227, 0, 0), (424, 224, 0, 0), (427, 222, 0, 0), (431, 239, 0, 0), (434, 221, 0, 0), (437, 220, 0, 0), (440, 241, 0, 0), (443, 231, 0, 0), (447, 240, 0, 0), (450, 238, 0, 0), (453, 232, 0, 0), (456, 242, 0, 0), (459, 235, 0, 0), (462, 237, 0, 0), (465, 233, 0, 0), (468, 244, 0, 0), (472, 236, 0, 0), (475, 234, 0, 0), (478, 225, 0, 0), (481, 211, 0, 0), (484, 247, 0, 0), (487, 248, 0, 0), (490, 246, 0, 0), (493, 229, 0, 0), (496, 223, 0, 0), (499, 228, 0, 0), (502, 257, 0, 0), (505, 250, 0, 0), (508, 249, 0, 0), (512, 252, 0, 0), (515, 254, 0, 0), (518, 245, 0, 0), (521, 255, 0, 0), (524, 226, 0, 0), (528, 251, 0, 0), (532, 253, 0, 0), (536, 256, 0, 0), (539, 243, 0, 0), (543, 258, 0, 0), (546, 259, 0, 0), (549, 260, 0, 0), (556, 262, 0, 0), (564, 214, 0, 0), (570, 261, 0, 0), (573, 263, 0, 0), (576, 264, 0, 0), (582, 269, 0, 0), (585, 268, 0, 0), (588, 267, 0, 0), (591, 266, 0, 0), (600, 273, 0, 0), (605, 271, 0, 0), (608, 270, 0, 0), (613, 366, 0, 0), (618, 272, 0, 0), (621, 274, 0, 0), (630, 277, 0, 0), (633, 279, 0, 0), (636, 276, 0, 0), (640, 278, 0, 0), (643, 281, 0, 0), (646, 280, 0, 0), (649, 284, 0, 0), (652, 282, 0, 0), (655, 283, 0, 0), (661, 288, 0, 0), (665, 286, 0, 0), (668, 285, 0, 0), (675, 289, 0, 0), (678, 291, 0, 0), (681, 290, 0, 0), (684, 287, 0, 0), (687, 293, 0, 0), (690, 292, 0, 0), (700, 295, 0, 0), (706, 297, 0, 0), (709, 299, 0, 0), (712, 296, 0, 0), (715, 298, 0, 0), (721, 303, 0, 0), (724, 301, 0, 0), (727, 302, 0, 0), (730, 304, 0, 0), (733, 305, 0, 0), (736, 307, 0, 0), (739, 308, 0, 0), (742, 306, 0, 0), (745, 309, 0, 0), (748, 311, 0, 0), (751, 310, 0, 0), (754, 312, 0, 0), (757, 300, 0, 0), (763, 313, 0, 0), (765, 314, 0, 0), (768, 315, 0, 0), (771, 316, 0, 0), (774, 317, 0, 0), (780, 205, 0, 0), (783, 265, 0, 0), (786, 275, 0, 0), (789, 294, 0, 0), (792, 318, 0, 0), (795, 321, 0, 0), (813, 325, 0, 0), (816, 322, 0, 0), (819, 323, 0, 0), (822, 328, 0, 0), (825, 335, 0, 0), (828, 333, 0, 0), (831, 326, 0, 0), (834, 324, 0, 0), (837, 331, 0, 0), (840, 330, 0, 0), (843, 334, 0, 0), (846, 329, 0, 0), (850, 336, 0, 0), (853, 337, 0, 0), (856, 344, 0, 0), (859, 345, 0, 0), (862, 341, 0, 0), (865, 327, 0, 0), (868, 342, 0, 0), (871, 338, 0, 0), (874, 340, 0, 0), (877, 339, 0, 0), (880, 343, 0, 0), (883, 346, 0, 0), (886, 351, 0, 0), (889, 332, 0, 0), (892, 347, 0, 0), (895, 348, 0, 0), (897, 357, 0, 0)] else []))
def mw_ml (cn : Nat) : List (Nat × Nat × Nat × Nat) := bif Nat.ble cn 4 then (mw_ml_0 cn) else (bif Nat.ble cn 7 then (mw_ml_1 cn) else (mw_ml_2 cn))
def mw_fl_0_0 (cn : Nat) : List (Nat × Nat × Nat × Nat) := bif Nat.ble cn 1 then (bif Nat.beq cn 1 then [(28, 1, 0, 0), (35, 1, 1, 0), (44, 1, 2, 0), (53, 1, 3, 0), (60, 1, 4, 0), (67, 1, 5, 0), (74, 1, 6, 0), (80, 1, 7, 0), (86, 1, 8, 0), (90, 1, 12, 0), (94, 1, 13, 0), (107, 1, 9, 0), (119, 3, 28, 1), (134, 2, 1, 1), (140, 2, 0, 1), (144, 1, 11, 0), (150, 4, 2, 1), (153, 4, 3, 1), (154, 4, 4, 1), (167, 1, 10, 0), (177, 11, 2, 1), (183, 11, 3, 1), (186, 8, 15, 1), (189, 11, 4, 1), (194, 11, 5, 1), (197, 3, 8, 1), (200, 11, 6, 1), (214, 3, 25, 1), (216, 3, 26, 1), (219, 3, 27, 1), (222, 10, 4, 1), (225, 10, 5, 1), (228, 10, 0, 1), (231, 10, 1, 1), (234, 9, 1, 1), (237, 9, 2, 1), (240, 9, 4, 1), (243, 1, 14, 0), (246, 1, 15, 0), (253, 9, 0, 1), (265, 11, 14, 1), (271, 10, 3, 1), (274, 11, 7, 1), (284, 10, 2, 1), (303, 11, 18, 1), (306, 11, 19, 1), (314, 11, 20, 1), (318, 12, 2, 1), (321, 11, 21, 1), (324, 11, 17, 1), (331, 11, 8, 1), (334, 11, 9, 1), (337, 11, 10, 1), (340, 11, 11, 1), (343, 11, 12, 1), (346, 11, 13, 1), (349, 11, 16, 1), (361, 9, 3, 1), (364, 3, 14, 1), (367, 3, 17, 1)] else []) else (bif Nat.beq cn 2 then [(9, 2, 0, 0), (15, 2, 1, 0)] else [])
def mw_fl_0_1 (cn : Nat) : List (Nat × Nat × Nat × Nat) := bif Nat.ble cn 3 then (bif Nat.beq cn 3 then [(11, 3, 0, 0), (17, 3, 1, 0), (21, 3, 2, 0), (24, 3, 3, 0), (27, 3, 4, 0), (30, 3, 5, 0), (33, 3, 6, 0), (91, 3, 28, 0), (94, 3, 9, 0), (98, 3, 14, 0), (101, 3, 17, 0), (104, 3, 25, 0)] else []) else (bif Nat.beq cn 4 then [(9, 4, 5, 0), (15, 4, 1, 0), (24, 4, 0, 0), (28, 4, 2, 0), (36, 4, 3, 0), (39, 4, 4, 0), (42, 5, 3, 1), (49, 5, 7, 1), (53, 5, 11, 1), (77, 5, 15, 1), (80, 5, 10, 1), (89, 5, 8, 1), (92, 5, 9, 1), (98, 4, 6, 0), (101, 3, 10, 1), (107, 3, 11, 1), (110, 3, 14, 1), (113, 3, 12, 1), (117, 3, 13, 1), (120, 5, 13, 1), (124, 5, 14, 1), (156, 4, 7, 0), (204, 3, 4, 1), (207, 3, 2, 1), (229, 3, 1, 1), (232, 3, 0, 1), (271, 5, 16, 1), (352, 3, 20, 1), (355, 3, 21, 1), (361, 3, 5, 1), (367, 5, 12, 1), (416, 3, 3, 1), (449, 3, 17, 1), (456, 3, 18, 1), (461, 3, 19, 1), (464, 3, 25, 1), (473, 3, 26, 1), (476, 3, 27, 1), (487, 3, 28, 1)] else [])
def mw_fl_0 (cn : Nat) : List (Nat × Nat × Nat × Nat) := bif Nat.ble cn 2 then (mw_fl_0_0 cn) else (mw_fl_0_1 cn)
def mw_fl_1_0 (cn : Nat) : List (Nat × Nat × Nat × Nat) := bif Nat.ble cn 5 then (bif Nat.beq cn 5 then [(15, 5, 1, 0), (21, 5, 0, 0), (25, 5, 2, 0), (29, 5, 3, 0), (32, 5, 7, 0), (39, 5, 5, 0), (48, 2, 1, 1), (51, 5, 4, 0), (54, 5, 6, 0), (58, 5, 9, 0), (61, 5, 8, 0), (67, 5, 10, 0), (70, 5, 11, 0), (96, 5, 13, 0), (100, 5, 14, 0), (116, 5, 12, 0), (126, 5, 15, 0), (133, 5, 16, 0)] else []) else (bif Nat.beq cn 6 then [(9, 6, 0, 0), (15, 3, 0, 1), (34, 3, 1, 1), (42, 3, 2, 1), (45, 3, 4, 1), (64, 3, 7, 1), (67, 3, 8, 1), (76, 3, 13, 1), (87, 3, 5, 1), (92, 3, 22, 1), (95, 3, 23, 1), (98, 3, 3, 1), (110, 3, 17, 1), (114, 3, 19, 1), (117, 3, 20, 1), (120, 3, 28, 1)] else [])
def mw_fl_1_1 (cn : Nat) : List (Nat × Nat × Nat × Nat) := bif Nat.ble cn 7 then (bif Nat.beq cn 7 then [(11, 7, 1, 0), (15, 7, 2, 0), (18, 7, 3, 0), (21, 7, 4, 0), (25, 7, 6, 0), (28, 7, 9, 0), (31, 7, 10, 0), (34, 7, 11, 0), (37, 7, 12, 0), (40, 7, 0, 0), (44, 7, 7, 0), (54, 7, 5, 0), (57, 3, 0, 1), (72, 3, 12, 1), (76, 3, 4, 1), (88, 3, 1, 1), (95, 3, 2, 1), (105, 3, 6, 1), (138, 3, 13, 1), (141, 7, 8, 0), (144, 3, 26, 1), (147, 3, 27, 1), (181, 3, 5, 1), (184, 3, 3, 1), (193, 3, 21, 1), (199, 3, 24, 1), (216, 3, 17, 1), (219, 3, 19, 1), (222, 3, 20, 1), (225, 3, 28, 1)] else []) else (bif Nat.beq cn 8 then [(9, 8, 1, 0), (15, 8, 2, 0), (18, 8, 3, 0), (21, 8, 4, 0), (24, 8, 5, 0), (27, 8, 6, 0), (30, 8, 8, 0), (33, 8, 10, 0), (36, 8, 11, 0), (39, 8, 0, 0), (51, 8, 7, 0), (55, 8, 14, 0), (63, 8, 9, 0), (66, 3, 15, 1), (71, 3, 16, 1), (74, 8, 12, 0), (77, 8, 13, 0), (80, 3, 4, 1), (83, 3, 12, 1), (99, 3, 0, 1), (109, 3, 1, 1), (116, 3, 13, 1), (144, 3, 2, 1), (177, 3, 5, 1), (219, 3, 21, 1), (225, 3, 22, 1), (228, 3, 3, 1), (231, 3, 7, 1), (234, 3, 8, 1), (256, 3, 17, 1), (262, 3, 20, 1), (265, 3, 19, 1), (272, 8, 15, 0)] else [])
def mw_fl_1 (cn : Nat) : List (Nat × Nat × Nat × Nat) := bif Nat.ble cn 6 then (mw_fl_1_0 cn) else (mw_fl_1_1 cn)
def mw_fl_2_0 (cn : Nat) : List (Nat × Nat × Nat × Nat) := bif Nat.ble cn 9 then (bif Nat.beq cn 9 then [(9, 9, 0, 0), (15, 9, 3, 0), (18, 9, 4, 0), (22, 9, 2, 0), (25, 9, 1, 0)] else []) else (bif Nat.beq cn 10 then [(7, 10, 0, 0), (13, 10, 1, 0), (17, 10, 2, 0), (20, 10, 3, 0), (23, 10, 4, 0), (26, 10, 5, 0)] else [])
def mw_fl_2_1 (cn : Nat) : List (Nat × Nat × Nat × Nat) := bif Nat.ble cn 11 then (bif Nat.beq cn 11 then [(9, 11, 2, 0), (15, 11, 7, 0), (22, 11, 20, 0), (26, 11, 21, 0), (29, 11, 0, 0), (33, 11, 1, 0), (37, 11, 5, 0), (44, 11, 22, 0), (48, 11, 17, 0), (51, 11, 18, 0), (54, 11, 19, 0), (57, 11, 6, 0), (64, 11, 4, 0), (67, 11, 11, 0), (70, 11, 14, 0), (73, 11, 12, 0), (76, 11, 15, 0), (79, 11, 16, 0), (82, 11, 8, 0), (85, 11, 9, 0), (88, 11, 10, 0), (91, 11, 13, 0), (98, 12, 2, 1), (101, 11, 23, 0), (104, 11, 24, 0), (107, 11, 25, 0), (110, 11, 26, 0), (113, 11, 27, 0), (196, 10, 1, 1), (205, 10, 0, 1)] else []) else (bif Nat.ble cn 12 then (bif Nat.beq cn 12 then [(9, 12, 0, 0), (13, 12, 1, 0), (17, 12, 2, 0)] else []) else (bif Nat.beq cn 13 then [(7, 13, 1, 0), (13, 13, 4, 0), (16, 13, 5, 0), (19, 13, 6, 0), (22, 13, 7, 0), (25, 13, 8, 0), (28, 13, 17, 0), (32, 13, 18, 0), (35, 13, 20, 0), (39, 13, 21, 0), (42, 13, 22, 0), (45, 13, 23, 0), (48, 13, 24, 0), (51, 13, 25, 0), (54, 13, 26, 0), (57, 13, 27, 0), (60, 13, 30, 0), (63, 13, 32, 0), (66, 13, 33, 0), (69, 13, 34, 0), (72, 13, 35, 0), (75, 13, 36, 0), (78, 13, 37, 0), (81, 13, 38, 0), (84, 13, 39, 0), (87, 13, 40, 0), (90, 13, 41, 0), (93, 13, 42, 0), (96, 13, 43, 0), (99, 13, 44, 0), (102, 13, 45, 0), (105, 13, 47, 0), (108, 13, 48, 0), (111, 13, 49, 0), (114, 13, 50, 0), (117, 13, 51, 0), (120, 13, 53, 0), (123, 13, 54, 0), (126, 13, 55, 0), (129, 13, 56, 0), (132, 13, 57, 0), (136, 13, 63, 0), (139, 13, 64, 0), (142, 13, 65, 0), (146, 13, 66, 0), (149, 13, 69, 0), (152, 13, 71, 0), (155, 13, 72, 0), (158, 13, 73, 0), (161, 13, 74, 0), (164, 13, 75, 0), (167, 13, 76, 0), (170, 13, 78, 0), (173, 13, 80, 0), (176, 13, 82, 0), (180, 13, 83, 0), (183, 13, 84, 0), (186, 13, 85, 0), (189, 13, 86, 0), (192, 13, 87, 0), (195, 13, 88, 0), (198, 13, 90, 0), (201, 13, 91, 0), (204, 13, 92, 0), (207, 13, 93, 0), (210, 13, 94, 0), (213, 13, 95, 0), (216, 13, 96, 0), (219, 13, 97, 0), (222, 13, 98, 0), (225, 13, 99, 0), (228, 13, 100, 0), (231, 13, 101, 0), (234, 13, 102, 0), (237, 13, 103, 0), (240, 13, 104, 0), (243, 13, 105, 0), (246, 13, 106, 0), (249, 13, 107, 0), (252, 13, 108, 0), (255, 13, 109, 0), (258, 13, 112, 0), (261, 13, 114, 0), (264, 13, 115, 0), (267, 13, 116, 0), (270, 13, 117, 0), (273, 13, 118, 0), (276, 13, 119, 0), (279, 13, 0, 0), (290, 13, 2, 0), (297, 13, 16, 0), (300, 13, 9, 0), (303, 13, 3, 0), (316, 13, 10, 0), (319, 13, 15, 0), (329, 13, 12, 0), (332, 13, 11, 0), (351, 13, 14, 0), (377, 13, 13, 0), (405, 13, 29, 0), (408, 13, 28, 0), (415, 13, 19, 0), (418, 13, 31, 0), (553, 13, 46, 0), (559, 13, 52, 0), (579, 13, 59, 0), (597, 13, 60, 0), (624, 13, 62, 0), (627, 13, 61, 0), (658, 13, 67, 0), (672, 13, 68, 0), (693, 13, 70, 0), (696, 13, 79, 0), (703, 13, 77, 0), (718, 13, 81, 0), (760, 13, 89, 0), (777, 13, 58, 0), (798, 13, 110, 0), (801, 13, 111, 0), (804, 13, 113, 0), (807, 13, 120, 0), (810, 13, 121, 0)] else []))
def mw_fl_2 (cn : Nat) : List (Nat × Nat × Nat × Nat) := bif Nat.ble cn 10 then (mw_fl_2_0 cn) else (mw_fl_2_1 cn)
def mw_fl (cn : Nat) : List (Nat × Nat × Nat × Nat) := bif Nat.ble cn 4 then (mw_fl_0 cn) else (bif Nat.ble cn 8 then (mw_fl_1 cn) else (mw_fl_2 cn))
def mw_kI4 (x : Nat) : Option Int32 := bif Nat.beq x 425 then some 2147483647 else none
def mw_kI13 (x : Nat) : Option Int32 := bif Nat.ble x 179 then (bif Nat.ble x 135 then (bif Nat.beq x 135 then some 60000 else none) else (bif Nat.beq x 179 then some 36000 else none)) else (bif Nat.ble x 527 then (bif Nat.beq x 527 then some 100000 else none) else (bif Nat.ble x 531 then (bif Nat.beq x 531 then some 2147483647 else none) else (bif Nat.beq x 596 then some 1000000 else none)))
def mw_kI (cn : Nat) (x : Nat) : Option Int32 := bif Nat.ble cn 4 then (bif Nat.beq cn 4 then mw_kI4 x else none) else (bif Nat.beq cn 13 then mw_kI13 x else none)
def mw_kL1_0 (x : Nat) : Option Nat := bif Nat.ble x 3 then (bif Nat.ble x 1 then (bif Nat.beq x 1 then some 48 else none) else (bif Nat.beq x 3 then some 57 else none)) else (bif Nat.ble x 11 then (bif Nat.beq x 11 then some 97 else none) else (bif Nat.beq x 13 then some 122 else none))
def mw_kL1_1 (x : Nat) : Option Nat := bif Nat.ble x 17 then (bif Nat.ble x 15 then (bif Nat.beq x 15 then some 65 else none) else (bif Nat.beq x 17 then some 90 else none)) else (bif Nat.ble x 117 then (bif Nat.beq x 117 then some 5 else none) else (bif Nat.ble x 126 then (bif Nat.beq x 126 then some 32 else none) else (bif Nat.beq x 128 then some 126 else none)))
def mw_kL1_2 (x : Nat) : Option Nat := bif Nat.ble x 209 then (bif Nat.ble x 203 then (bif Nat.beq x 203 then some 2 else none) else (bif Nat.beq x 209 then some 3 else none)) else (bif Nat.ble x 263 then (bif Nat.beq x 263 then some 5000 else none) else (bif Nat.ble x 295 then (bif Nat.beq x 295 then some 1000 else none) else (bif Nat.beq x 309 then some 12 else none)))
def mw_kL1 (x : Nat) : Option Nat := bif Nat.ble x 13 then (mw_kL1_0 x) else (bif Nat.ble x 128 then (mw_kL1_1 x) else (mw_kL1_2 x))
def mw_kL4 (x : Nat) : Option Nat := bif Nat.beq x 485 then some 5 else none
def mw_kL5 (x : Nat) : Option Nat := bif Nat.ble x 120 then (bif Nat.beq x 120 then some 10 else none) else (bif Nat.ble x 122 then (bif Nat.beq x 122 then some 48 else none) else (bif Nat.beq x 124 then some 2147483647 else none))
def mw_kL6 (x : Nat) : Option Nat := bif Nat.ble x 58 then (bif Nat.beq x 58 then some 1048576 else none) else (bif Nat.ble x 70 then (bif Nat.beq x 70 then some 3 else none) else (bif Nat.beq x 90 then some 7 else none))
def mw_kL13_0 (x : Nat) : Option Nat := bif Nat.ble x 314 then (bif Nat.ble x 312 then (bif Nat.beq x 312 then some 27 else none) else (bif Nat.beq x 314 then some 37 else none)) else (bif Nat.ble x 355 then (bif Nat.beq x 355 then some 38 else none) else (bif Nat.ble x 371 then (bif Nat.beq x 371 then some 65 else none) else (bif Nat.beq x 382 then some 10 else none)))
def mw_kL13_1 (x : Nat) : Option Nat := bif Nat.ble x 386 then (bif Nat.ble x 384 then (bif Nat.beq x 384 then some 48 else none) else (bif Nat.beq x 386 then some 2147483647 else none)) else (bif Nat.ble x 594 then (bif Nat.beq x 594 then some 1000000 else none) else (bif Nat.ble x 603 then (bif Nat.beq x 603 then some 3 else none) else (bif Nat.beq x 611 then some 7 else none)))
def mw_kL13 (x : Nat) : Option Nat := bif Nat.ble x 382 then (mw_kL13_0 x) else (mw_kL13_1 x)
def mw_kL (cn : Nat) (x : Nat) : Option Nat := bif Nat.ble cn 4 then (bif Nat.ble cn 1 then (bif Nat.beq cn 1 then mw_kL1 x else none) else (bif Nat.beq cn 4 then mw_kL4 x else none)) else (bif Nat.ble cn 5 then (bif Nat.beq cn 5 then mw_kL5 x else none) else (bif Nat.ble cn 6 then (bif Nat.beq cn 6 then mw_kL6 x else none) else (bif Nat.beq cn 13 then mw_kL13 x else none)))
def mw_codeC (mi : Nat) : Cond := .code (mw_y mi) (mw_b mi) (mw_l mi) (mw_r mi)
theorem mw_ca0 : mw_codeC 0 ∈ mw_good := mw_good_of (mw_tm4 (List.mem_of_getElem? (i := 78) rfl)) rfl
theorem mw_ca1 : mw_codeC 1 ∈ mw_good := mw_good_of (mw_tm4 (List.mem_of_getElem? (i := 85) rfl)) rfl
theorem mw_ca2 : mw_codeC 2 ∈ mw_good := mw_good_of (mw_tm4 (List.mem_of_getElem? (i := 73) rfl)) rfl
theorem mw_ca3 : mw_codeC 3 ∈ mw_good := mw_good_of (mw_tm4 (List.mem_of_getElem? (i := 90) rfl)) rfl
theorem mw_ca4 : mw_codeC 4 ∈ mw_good := mw_good_of (mw_tm4 (List.mem_of_getElem? (i := 112) rfl)) rfl
theorem mw_ca5 : mw_codeC 5 ∈ mw_good := mw_good_of (mw_tm7 (List.mem_of_getElem? (i := 119) rfl)) rfl
theorem mw_ca6 : mw_codeC 6 ∈ mw_good := mw_good_of (mw_tm7 (List.mem_of_getElem? (i := 205) rfl)) rfl
theorem mw_ca7 : mw_codeC 7 ∈ mw_good := mw_good_of (mw_tm7 (List.mem_of_getElem? (i := 24) rfl)) rfl
theorem mw_ca8 : mw_codeC 8 ∈ mw_good := mw_good_of (mw_tm7 (List.mem_of_getElem? (i := 177) rfl)) rfl
theorem mw_ca9 : mw_codeC 9 ∈ mw_good := mw_good_of (mw_tm7 (List.mem_of_getElem? (i := 114) rfl)) rfl
theorem mw_ca10 : mw_codeC 10 ∈ mw_good := mw_good_of (mw_tm7 (List.mem_of_getElem? (i := 156) rfl)) rfl
theorem mw_ca11 : mw_codeC 11 ∈ mw_good := mw_good_of (mw_tm5 (List.mem_of_getElem? (i := 209) rfl)) rfl
theorem mw_ca12 : mw_codeC 12 ∈ mw_good := mw_good_of (mw_tm3 (List.mem_of_getElem? (i := 223) rfl)) rfl
theorem mw_ca13 : mw_codeC 13 ∈ mw_good := mw_good_of (mw_tm6 (List.mem_of_getElem? (i := 104) rfl)) rfl
theorem mw_ca14 : mw_codeC 14 ∈ mw_good := mw_good_of (mw_tm7 (List.mem_of_getElem? (i := 163) rfl)) rfl
theorem mw_ca15 : mw_codeC 15 ∈ mw_good := mw_good_of (mw_tm7 (List.mem_of_getElem? (i := 173) rfl)) rfl
theorem mw_ca16 : mw_codeC 16 ∈ mw_good := mw_good_of (mw_tm7 (List.mem_of_getElem? (i := 202) rfl)) rfl
theorem mw_ca17 : mw_codeC 17 ∈ mw_good := mw_good_of (mw_tm7 (List.mem_of_getElem? (i := 227) rfl)) rfl
theorem mw_ca18 : mw_codeC 18 ∈ mw_good := mw_good_of (mw_tm7 (List.mem_of_getElem? (i := 234) rfl)) rfl
theorem mw_ca19 : mw_codeC 19 ∈ mw_good := mw_good_of (mw_tm7 (List.mem_of_getElem? (i := 20) rfl)) rfl
theorem mw_ca20 : mw_codeC 20 ∈ mw_good := mw_good_of (mw_tm8 (List.mem_of_getElem? (i := 5) rfl)) rfl
theorem mw_ca21 : mw_codeC 21 ∈ mw_good := mw_good_of (mw_tm8 (List.mem_of_getElem? (i := 44) rfl)) rfl
theorem mw_ca22 : mw_codeC 22 ∈ mw_good := mw_good_of (mw_tm8 (List.mem_of_getElem? (i := 151) rfl)) rfl
theorem mw_ca23 : mw_codeC 23 ∈ mw_good := mw_good_of (mw_tm8 (List.mem_of_getElem? (i := 147) rfl)) rfl
theorem mw_ca24 : mw_codeC 24 ∈ mw_good := mw_good_of (mw_tm8 (List.mem_of_getElem? (i := 142) rfl)) rfl
theorem mw_ca25 : mw_codeC 25 ∈ mw_good := mw_good_of (mw_tm8 (List.mem_of_getElem? (i := 165) rfl)) rfl
theorem mw_ca26 : mw_codeC 26 ∈ mw_good := mw_good_of (mw_tm8 (List.mem_of_getElem? (i := 169) rfl)) rfl
theorem mw_ca27 : mw_codeC 27 ∈ mw_good := mw_good_of (mw_tm8 (List.mem_of_getElem? (i := 180) rfl)) rfl
theorem mw_ca28 : mw_codeC 28 ∈ mw_good := mw_good_of (mw_tm8 (List.mem_of_getElem? (i := 185) rfl)) rfl
theorem mw_ca29 : mw_codeC 29 ∈ mw_good := mw_good_of (mw_tm8 (List.mem_of_getElem? (i := 192) rfl)) rfl
theorem mw_ca30 : mw_codeC 30 ∈ mw_good := mw_good_of (mw_tm8 (List.mem_of_getElem? (i := 203) rfl)) rfl
theorem mw_ca31 : mw_codeC 31 ∈ mw_good := mw_good_of (mw_tm8 (List.mem_of_getElem? (i := 210) rfl)) rfl
theorem mw_ca32 : mw_codeC 32 ∈ mw_good := mw_good_of (mw_tm8 (List.mem_of_getElem? (i := 218) rfl)) rfl
theorem mw_ca33 : mw_codeC 33 ∈ mw_good := mw_good_of (mw_tm4 (List.mem_of_getElem? (i := 62) rfl)) rfl
theorem mw_ca34 : mw_codeC 34 ∈ mw_good := mw_good_of (mw_tm3 (List.mem_of_getElem? (i := 231) rfl)) rfl
theorem mw_ca35 : mw_codeC 35 ∈ mw_good := mw_good_of (mw_tm4 (List.mem_of_getElem? (i := 231) rfl)) rfl
theorem mw_ca36 : mw_codeC 36 ∈ mw_good := mw_good_of (mw_tm4 (List.mem_of_getElem? (i := 120) rfl)) rfl
theorem mw_ca37 : mw_codeC 37 ∈ mw_good := mw_good_of (mw_tm4 (List.mem_of_getElem? (i := 143) rfl)) rfl
theorem mw_ca38 : mw_codeC 38 ∈ mw_good := mw_good_of (mw_tm4 (List.mem_of_getElem? (i := 147) rfl)) rfl
theorem mw_ca39 : mw_codeC 39 ∈ mw_good := mw_good_of (mw_tm4 (List.mem_of_getElem? (i := 139) rfl)) rfl
theorem mw_ca40 : mw_codeC 40 ∈ mw_good := mw_good_of (mw_tm4 (List.mem_of_getElem? (i := 134) rfl)) rfl
theorem mw_ca41 : mw_codeC 41 ∈ mw_good := mw_good_of (mw_tm4 (List.mem_of_getElem? (i := 177) rfl)) rfl
theorem mw_ca42 : mw_codeC 42 ∈ mw_good := mw_good_of (mw_tm4 (List.mem_of_getElem? (i := 204) rfl)) rfl
theorem mw_ca43 : mw_codeC 43 ∈ mw_good := mw_good_of (mw_tm4 (List.mem_of_getElem? (i := 191) rfl)) rfl
theorem mw_ca44 : mw_codeC 44 ∈ mw_good := mw_good_of (mw_tm4 (List.mem_of_getElem? (i := 208) rfl)) rfl
theorem mw_ca45 : mw_codeC 45 ∈ mw_good := mw_good_of (mw_tm4 (List.mem_of_getElem? (i := 116) rfl)) rfl
theorem mw_ca46 : mw_codeC 46 ∈ mw_good := mw_good_of (mw_tm4 (List.mem_of_getElem? (i := 221) rfl)) rfl
theorem mw_ca47 : mw_codeC 47 ∈ mw_good := mw_good_of (mw_tm5 (List.mem_of_getElem? (i := 11) rfl)) rfl
theorem mw_ca48 : mw_codeC 48 ∈ mw_good := mw_good_of (mw_tm4 (List.mem_of_getElem? (i := 169) rfl)) rfl
theorem mw_ca49 : mw_codeC 49 ∈ mw_good := mw_good_of (mw_tm4 (List.mem_of_getElem? (i := 213) rfl)) rfl
theorem mw_ca50 : mw_codeC 50 ∈ mw_good := mw_good_of (mw_tm4 (List.mem_of_getElem? (i := 165) rfl)) rfl
theorem mw_ca51 : mw_codeC 51 ∈ mw_good := mw_good_of (mw_tm4 (List.mem_of_getElem? (i := 161) rfl)) rfl
theorem mw_ca52 : mw_codeC 52 ∈ mw_good := mw_good_of (mw_tm4 (List.mem_of_getElem? (i := 153) rfl)) rfl
theorem mw_ca53 : mw_codeC 53 ∈ mw_good := mw_good_of (mw_tm4 (List.mem_of_getElem? (i := 157) rfl)) rfl
theorem mw_ca54 : mw_codeC 54 ∈ mw_good := mw_good_of (mw_tm5 (List.mem_of_getElem? (i := 7) rfl)) rfl
theorem mw_ca55 : mw_codeC 55 ∈ mw_good := mw_good_of (mw_tm5 (List.mem_of_getElem? (i := 21) rfl)) rfl
theorem mw_ca56 : mw_codeC 56 ∈ mw_good := mw_good_of (mw_tm5 (List.mem_of_getElem? (i := 72) rfl)) rfl
theorem mw_ca57 : mw_codeC 57 ∈ mw_good := mw_good_of (mw_tm5 (List.mem_of_getElem? (i := 58) rfl)) rfl
theorem mw_ca58 : mw_codeC 58 ∈ mw_good := mw_good_of (mw_tm5 (List.mem_of_getElem? (i := 101) rfl)) rfl
theorem mw_ca59 : mw_codeC 59 ∈ mw_good := mw_good_of (mw_tm5 (List.mem_of_getElem? (i := 49) rfl)) rfl
theorem mw_ca60 : mw_codeC 60 ∈ mw_good := mw_good_of (mw_tm5 (List.mem_of_getElem? (i := 53) rfl)) rfl
theorem mw_ca61 : mw_codeC 61 ∈ mw_good := mw_good_of (mw_tm5 (List.mem_of_getElem? (i := 68) rfl)) rfl
theorem mw_ca62 : mw_codeC 62 ∈ mw_good := mw_good_of (mw_tm5 (List.mem_of_getElem? (i := 64) rfl)) rfl
theorem mw_ca63 : mw_codeC 63 ∈ mw_good := mw_good_of (mw_tm5 (List.mem_of_getElem? (i := 94) rfl)) rfl
theorem mw_ca64 : mw_codeC 64 ∈ mw_good := mw_good_of (mw_tm5 (List.mem_of_getElem? (i := 98) rfl)) rfl
theorem mw_ca65 : mw_codeC 65 ∈ mw_good := mw_good_of (mw_tm5 (List.mem_of_getElem? (i := 39) rfl)) rfl
theorem mw_ca66 : mw_codeC 66 ∈ mw_good := mw_good_of (mw_tm5 (List.mem_of_getElem? (i := 84) rfl)) rfl
theorem mw_ca67 : mw_codeC 67 ∈ mw_good := mw_good_of (mw_tm5 (List.mem_of_getElem? (i := 29) rfl)) rfl
theorem mw_ca68 : mw_codeC 68 ∈ mw_good := mw_good_of (mw_tm5 (List.mem_of_getElem? (i := 80) rfl)) rfl
theorem mw_ca69 : mw_codeC 69 ∈ mw_good := mw_good_of (mw_tm4 (List.mem_of_getElem? (i := 217) rfl)) rfl
theorem mw_ca70 : mw_codeC 70 ∈ mw_good := mw_good_of (mw_tm5 (List.mem_of_getElem? (i := 186) rfl)) rfl
theorem mw_ca71 : mw_codeC 71 ∈ mw_good := mw_good_of (mw_tm4 (List.mem_of_getElem? (i := 225) rfl)) rfl
theorem mw_ca72 : mw_codeC 72 ∈ mw_good := mw_good_of (mw_tm5 (List.mem_of_getElem? (i := 3) rfl)) rfl
theorem mw_ca73 : mw_codeC 73 ∈ mw_good := mw_good_of (mw_tm5 (List.mem_of_getElem? (i := 15) rfl)) rfl
theorem mw_ca74 : mw_codeC 74 ∈ mw_good := mw_good_of (mw_tm5 (List.mem_of_getElem? (i := 25) rfl)) rfl
theorem mw_ca75 : mw_codeC 75 ∈ mw_good := mw_good_of (mw_tm5 (List.mem_of_getElem? (i := 113) rfl)) rfl
theorem mw_ca76 : mw_codeC 76 ∈ mw_good := mw_good_of (mw_tm5 (List.mem_of_getElem? (i := 135) rfl)) rfl
theorem mw_ca77 : mw_codeC 77 ∈ mw_good := mw_good_of (mw_tm5 (List.mem_of_getElem? (i := 129) rfl)) rfl
theorem mw_ca78 : mw_codeC 78 ∈ mw_good := mw_good_of (mw_tm5 (List.mem_of_getElem? (i := 143) rfl)) rfl
theorem mw_ca79 : mw_codeC 79 ∈ mw_good := mw_good_of (mw_tm5 (List.mem_of_getElem? (i := 152) rfl)) rfl
theorem mw_ca80 : mw_codeC 80 ∈ mw_good := mw_good_of (mw_tm5 (List.mem_of_getElem? (i := 170) rfl)) rfl
theorem mw_ca81 : mw_codeC 81 ∈ mw_good := mw_good_of (mw_tm5 (List.mem_of_getElem? (i := 160) rfl)) rfl
theorem mw_ca82 : mw_codeC 82 ∈ mw_good := mw_good_of (mw_tm5 (List.mem_of_getElem? (i := 166) rfl)) rfl
theorem mw_ca83 : mw_codeC 83 ∈ mw_good := mw_good_of (mw_tm5 (List.mem_of_getElem? (i := 176) rfl)) rfl
theorem mw_ca84 : mw_codeC 84 ∈ mw_good := mw_good_of (mw_tm5 (List.mem_of_getElem? (i := 182) rfl)) rfl
theorem mw_ca85 : mw_codeC 85 ∈ mw_good := mw_good_of (mw_tm4 (List.mem_of_getElem? (i := 173) rfl)) rfl
theorem mw_ca86 : mw_codeC 86 ∈ mw_good := mw_good_of (mw_tm4 (List.mem_of_getElem? (i := 130) rfl)) rfl
theorem mw_ca87 : mw_codeC 87 ∈ mw_good := mw_good_of (mw_tm5 (List.mem_of_getElem? (i := 194) rfl)) rfl
theorem mw_ca88 : mw_codeC 88 ∈ mw_good := mw_good_of (mw_tm5 (List.mem_of_getElem? (i := 202) rfl)) rfl
theorem mw_ca89 : mw_codeC 89 ∈ mw_good := mw_good_of (mw_tm4 (List.mem_of_getElem? (i := 47) rfl)) rfl
theorem mw_ca90 : mw_codeC 90 ∈ mw_good := mw_good_of (mw_tm3 (List.mem_of_getElem? (i := 235) rfl)) rfl
theorem mw_ca91 : mw_codeC 91 ∈ mw_good := mw_good_of (mw_tm3 (List.mem_of_getElem? (i := 227) rfl)) rfl
theorem mw_ca92 : mw_codeC 92 ∈ mw_good := mw_good_of (mw_tm4 (List.mem_of_getElem? (i := 54) rfl)) rfl
theorem mw_ca93 : mw_codeC 93 ∈ mw_good := mw_good_of (mw_tm4 (List.mem_of_getElem? (i := 66) rfl)) rfl
theorem mw_ca94 : mw_codeC 94 ∈ mw_good := mw_good_of (mw_tm4 (List.mem_of_getElem? (i := 58) rfl)) rfl
theorem mw_ca95 : mw_codeC 95 ∈ mw_good := mw_good_of (mw_tm4 (List.mem_of_getElem? (i := 70) rfl)) rfl
theorem mw_ca96 : mw_codeC 96 ∈ mw_good := mw_good_of (mw_tm4 (List.mem_of_getElem? (i := 82) rfl)) rfl
theorem mw_ca97 : mw_codeC 97 ∈ mw_good := mw_good_of (mw_tm4 (List.mem_of_getElem? (i := 96) rfl)) rfl
theorem mw_ca98 : mw_codeC 98 ∈ mw_good := mw_good_of (mw_tm4 (List.mem_of_getElem? (i := 102) rfl)) rfl
theorem mw_ca99 : mw_codeC 99 ∈ mw_good := mw_good_of (mw_tm4 (List.mem_of_getElem? (i := 109) rfl)) rfl
theorem mw_ca100 : mw_codeC 100 ∈ mw_good := mw_good_of (mw_tm4 (List.mem_of_getElem? (i := 181) rfl)) rfl
theorem mw_ca101 : mw_codeC 101 ∈ mw_good := mw_good_of (mw_tm4 (List.mem_of_getElem? (i := 126) rfl)) rfl
theorem mw_ca102 : mw_codeC 102 ∈ mw_good := mw_good_of (mw_tm5 (List.mem_of_getElem? (i := 234) rfl)) rfl
theorem mw_ca103 : mw_codeC 103 ∈ mw_good := mw_good_of (mw_tm5 (List.mem_of_getElem? (i := 231) rfl)) rfl
theorem mw_ca104 : mw_codeC 104 ∈ mw_good := mw_good_of (mw_tm6 (List.mem_of_getElem? (i := 0) rfl)) rfl
theorem mw_ca105 : mw_codeC 105 ∈ mw_good := mw_good_of (mw_tm6 (List.mem_of_getElem? (i := 9) rfl)) rfl
theorem mw_ca106 : mw_codeC 106 ∈ mw_good := mw_good_of (mw_tm5 (List.mem_of_getElem? (i := 227) rfl)) rfl
theorem mw_ca107 : mw_codeC 107 ∈ mw_good := mw_good_of (mw_tm5 (List.mem_of_getElem? (i := 217) rfl)) rfl
theorem mw_ca108 : mw_codeC 108 ∈ mw_good := mw_good_of (mw_tm6 (List.mem_of_getElem? (i := 13) rfl)) rfl
theorem mw_ca109 : mw_codeC 109 ∈ mw_good := mw_good_of (mw_tm5 (List.mem_of_getElem? (i := 213) rfl)) rfl
theorem mw_ca110 : mw_codeC 110 ∈ mw_good := mw_good_of (mw_tm6 (List.mem_of_getElem? (i := 43) rfl)) rfl
theorem mw_ca111 : mw_codeC 111 ∈ mw_good := mw_good_of (mw_tm6 (List.mem_of_getElem? (i := 50) rfl)) rfl
theorem mw_ca112 : mw_codeC 112 ∈ mw_good := mw_good_of (mw_tm6 (List.mem_of_getElem? (i := 73) rfl)) rfl
theorem mw_ca113 : mw_codeC 113 ∈ mw_good := mw_good_of (mw_tm6 (List.mem_of_getElem? (i := 80) rfl)) rfl
theorem mw_ca114 : mw_codeC 114 ∈ mw_good := mw_good_of (mw_tm6 (List.mem_of_getElem? (i := 58) rfl)) rfl
theorem mw_ca115 : mw_codeC 115 ∈ mw_good := mw_good_of (mw_tm6 (List.mem_of_getElem? (i := 63) rfl)) rfl
theorem mw_ca116 : mw_codeC 116 ∈ mw_good := mw_good_of (mw_tm6 (List.mem_of_getElem? (i := 54) rfl)) rfl
theorem mw_ca117 : mw_codeC 117 ∈ mw_good := mw_good_of (mw_tm6 (List.mem_of_getElem? (i := 39) rfl)) rfl
theorem mw_ca118 : mw_codeC 118 ∈ mw_good := mw_good_of (mw_tm6 (List.mem_of_getElem? (i := 35) rfl)) rfl
theorem mw_ca119 : mw_codeC 119 ∈ mw_good := mw_good_of (mw_tm6 (List.mem_of_getElem? (i := 31) rfl)) rfl
theorem mw_ca120 : mw_codeC 120 ∈ mw_good := mw_good_of (mw_tm6 (List.mem_of_getElem? (i := 27) rfl)) rfl
theorem mw_ca121 : mw_codeC 121 ∈ mw_good := mw_good_of (mw_tm6 (List.mem_of_getElem? (i := 22) rfl)) rfl
theorem mw_ca122 : mw_codeC 122 ∈ mw_good := mw_good_of (mw_tm6 (List.mem_of_getElem? (i := 99) rfl)) rfl
theorem mw_ca123 : mw_codeC 123 ∈ mw_good := mw_good_of (mw_tm6 (List.mem_of_getElem? (i := 84) rfl)) rfl
theorem mw_ca124 : mw_codeC 124 ∈ mw_good := mw_good_of (mw_tm6 (List.mem_of_getElem? (i := 89) rfl)) rfl
theorem mw_ca125 : mw_codeC 125 ∈ mw_good := mw_good_of (mw_tm6 (List.mem_of_getElem? (i := 95) rfl)) rfl
theorem mw_ca126 : mw_codeC 126 ∈ mw_good := mw_good_of (mw_tm6 (List.mem_of_getElem? (i := 18) rfl)) rfl
theorem mw_ca127 : mw_codeC 127 ∈ mw_good := mw_good_of (mw_tm6 (List.mem_of_getElem? (i := 128) rfl)) rfl
theorem mw_ca128 : mw_codeC 128 ∈ mw_good := mw_good_of (mw_tm6 (List.mem_of_getElem? (i := 144) rfl)) rfl
theorem mw_ca129 : mw_codeC 129 ∈ mw_good := mw_good_of (mw_tm6 (List.mem_of_getElem? (i := 132) rfl)) rfl
theorem mw_ca130 : mw_codeC 130 ∈ mw_good := mw_good_of (mw_tm6 (List.mem_of_getElem? (i := 112) rfl)) rfl
theorem mw_ca131 : mw_codeC 131 ∈ mw_good := mw_good_of (mw_tm6 (List.mem_of_getElem? (i := 116) rfl)) rfl
theorem mw_ca132 : mw_codeC 132 ∈ mw_good := mw_good_of (mw_tm6 (List.mem_of_getElem? (i := 178) rfl)) rfl
theorem mw_ca133 : mw_codeC 133 ∈ mw_good := mw_good_of (mw_tm6 (List.mem_of_getElem? (i := 135) rfl)) rfl
theorem mw_ca134 : mw_codeC 134 ∈ mw_good := mw_good_of (mw_tm6 (List.mem_of_getElem? (i := 161) rfl)) rfl
theorem mw_ca135 : mw_codeC 135 ∈ mw_good := mw_good_of (mw_tm6 (List.mem_of_getElem? (i := 124) rfl)) rfl
theorem mw_ca136 : mw_codeC 136 ∈ mw_good := mw_good_of (mw_tm6 (List.mem_of_getElem? (i := 166) rfl)) rfl
theorem mw_ca137 : mw_codeC 137 ∈ mw_good := mw_good_of (mw_tm6 (List.mem_of_getElem? (i := 152) rfl)) rfl
theorem mw_ca138 : mw_codeC 138 ∈ mw_good := mw_good_of (mw_tm6 (List.mem_of_getElem? (i := 156) rfl)) rfl
theorem mw_ca139 : mw_codeC 139 ∈ mw_good := mw_good_of (mw_tm6 (List.mem_of_getElem? (i := 174) rfl)) rfl
theorem mw_ca140 : mw_codeC 140 ∈ mw_good := mw_good_of (mw_tm6 (List.mem_of_getElem? (i := 183) rfl)) rfl
theorem mw_ca141 : mw_codeC 141 ∈ mw_good := mw_good_of (mw_tm6 (List.mem_of_getElem? (i := 187) rfl)) rfl
theorem mw_ca142 : mw_codeC 142 ∈ mw_good := mw_good_of (mw_tm6 (List.mem_of_getElem? (i := 139) rfl)) rfl
theorem mw_ca143 : mw_codeC 143 ∈ mw_good := mw_good_of (mw_tm6 (List.mem_of_getElem? (i := 236) rfl)) rfl
theorem mw_ca144 : mw_codeC 144 ∈ mw_good := mw_good_of (mw_tm6 (List.mem_of_getElem? (i := 148) rfl)) rfl
theorem mw_ca145 : mw_codeC 145 ∈ mw_good := mw_good_of (mw_tm6 (List.mem_of_getElem? (i := 193) rfl)) rfl
theorem mw_ca146 : mw_codeC 146 ∈ mw_good := mw_good_of (mw_tm6 (List.mem_of_getElem? (i := 198) rfl)) rfl
theorem mw_ca147 : mw_codeC 147 ∈ mw_good := mw_good_of (mw_tm6 (List.mem_of_getElem? (i := 228) rfl)) rfl
theorem mw_ca148 : mw_codeC 148 ∈ mw_good := mw_good_of (mw_tm6 (List.mem_of_getElem? (i := 224) rfl)) rfl
theorem mw_ca149 : mw_codeC 149 ∈ mw_good := mw_good_of (mw_tm6 (List.mem_of_getElem? (i := 216) rfl)) rfl
theorem mw_ca150 : mw_codeC 150 ∈ mw_good := mw_good_of (mw_tm6 (List.mem_of_getElem? (i := 207) rfl)) rfl
theorem mw_ca151 : mw_codeC 151 ∈ mw_good := mw_good_of (mw_tm6 (List.mem_of_getElem? (i := 202) rfl)) rfl
theorem mw_ca152 : mw_codeC 152 ∈ mw_good := mw_good_of (mw_tm6 (List.mem_of_getElem? (i := 211) rfl)) rfl
theorem mw_ca153 : mw_codeC 153 ∈ mw_good := mw_good_of (mw_tm6 (List.mem_of_getElem? (i := 220) rfl)) rfl
theorem mw_ca154 : mw_codeC 154 ∈ mw_good := mw_good_of (mw_tm6 (List.mem_of_getElem? (i := 232) rfl)) rfl
theorem mw_ca155 : mw_codeC 155 ∈ mw_good := mw_good_of (mw_tm6 (List.mem_of_getElem? (i := 120) rfl)) rfl
theorem mw_ca156 : mw_codeC 156 ∈ mw_good := mw_good_of (mw_tm6 (List.mem_of_getElem? (i := 108) rfl)) rfl
theorem mw_ca157 : mw_codeC 157 ∈ mw_good := mw_good_of (mw_tm7 (List.mem_of_getElem? (i := 3) rfl)) rfl
theorem mw_ca158 : mw_codeC 158 ∈ mw_good := mw_good_of (mw_tm7 (List.mem_of_getElem? (i := 7) rfl)) rfl
theorem mw_ca159 : mw_codeC 159 ∈ mw_good := mw_good_of (mw_tm7 (List.mem_of_getElem? (i := 11) rfl)) rfl
theorem mw_ca160 : mw_codeC 160 ∈ mw_good := mw_good_of (mw_tm7 (List.mem_of_getElem? (i := 15) rfl)) rfl
theorem mw_ca161 : mw_codeC 161 ∈ mw_good := mw_good_of (mw_tm8 (List.mem_of_getElem? (i := 118) rfl)) rfl
theorem mw_ca162 : mw_codeC 162 ∈ mw_good := mw_good_of (mw_tm8 (List.mem_of_getElem? (i := 94) rfl)) rfl
theorem mw_ca163 : mw_codeC 163 ∈ mw_good := mw_good_of (mw_tm8 (List.mem_of_getElem? (i := 98) rfl)) rfl
theorem mw_ca164 : mw_codeC 164 ∈ mw_good := mw_good_of (mw_tm7 (List.mem_of_getElem? (i := 93) rfl)) rfl
theorem mw_ca165 : mw_codeC 165 ∈ mw_good := mw_good_of (mw_tm8 (List.mem_of_getElem? (i := 156) rfl)) rfl
theorem mw_ca166 : mw_codeC 166 ∈ mw_good := mw_good_of (mw_tm8 (List.mem_of_getElem? (i := 106) rfl)) rfl
theorem mw_ca167 : mw_codeC 167 ∈ mw_good := mw_good_of (mw_tm8 (List.mem_of_getElem? (i := 110) rfl)) rfl
theorem mw_ca168 : mw_codeC 168 ∈ mw_good := mw_good_of (mw_tm7 (List.mem_of_getElem? (i := 97) rfl)) rfl
theorem mw_ca169 : mw_codeC 169 ∈ mw_good := mw_good_of (mw_tm7 (List.mem_of_getElem? (i := 105) rfl)) rfl
theorem mw_ca170 : mw_codeC 170 ∈ mw_good := mw_good_of (mw_tm8 (List.mem_of_getElem? (i := 78) rfl)) rfl
theorem mw_ca171 : mw_codeC 171 ∈ mw_good := mw_good_of (mw_tm8 (List.mem_of_getElem? (i := 17) rfl)) rfl
theorem mw_ca172 : mw_codeC 172 ∈ mw_good := mw_good_of (mw_tm8 (List.mem_of_getElem? (i := 29) rfl)) rfl
theorem mw_ca173 : mw_codeC 173 ∈ mw_good := mw_good_of (mw_tm8 (List.mem_of_getElem? (i := 25) rfl)) rfl
theorem mw_ca174 : mw_codeC 174 ∈ mw_good := mw_good_of (mw_tm8 (List.mem_of_getElem? (i := 82) rfl)) rfl
theorem mw_ca175 : mw_codeC 175 ∈ mw_good := mw_good_of (mw_tm8 (List.mem_of_getElem? (i := 61) rfl)) rfl
theorem mw_ca176 : mw_codeC 176 ∈ mw_good := mw_good_of (mw_tm8 (List.mem_of_getElem? (i := 57) rfl)) rfl
theorem mw_ca177 : mw_codeC 177 ∈ mw_good := mw_good_of (mw_tm8 (List.mem_of_getElem? (i := 69) rfl)) rfl
theorem mw_ca178 : mw_codeC 178 ∈ mw_good := mw_good_of (mw_tm8 (List.mem_of_getElem? (i := 49) rfl)) rfl
theorem mw_ca179 : mw_codeC 179 ∈ mw_good := mw_good_of (mw_tm8 (List.mem_of_getElem? (i := 134) rfl)) rfl
theorem mw_ca180 : mw_codeC 180 ∈ mw_good := mw_good_of (mw_tm8 (List.mem_of_getElem? (i := 53) rfl)) rfl
theorem mw_ca181 : mw_codeC 181 ∈ mw_good := mw_good_of (mw_tm8 (List.mem_of_getElem? (i := 65) rfl)) rfl
theorem mw_ca182 : mw_codeC 182 ∈ mw_good := mw_good_of (mw_tm8 (List.mem_of_getElem? (i := 74) rfl)) rfl
theorem mw_ca183 : mw_codeC 183 ∈ mw_good := mw_good_of (mw_tm8 (List.mem_of_getElem? (i := 86) rfl)) rfl
theorem mw_ca184 : mw_codeC 184 ∈ mw_good := mw_good_of (mw_tm8 (List.mem_of_getElem? (i := 102) rfl)) rfl
theorem mw_ca185 : mw_codeC 185 ∈ mw_good := mw_good_of (mw_tm8 (List.mem_of_getElem? (i := 90) rfl)) rfl
theorem mw_ca186 : mw_codeC 186 ∈ mw_good := mw_good_of (mw_tm8 (List.mem_of_getElem? (i := 114) rfl)) rfl
theorem mw_ca187 : mw_codeC 187 ∈ mw_good := mw_good_of (mw_tm8 (List.mem_of_getElem? (i := 13) rfl)) rfl
theorem mw_ca188 : mw_codeC 188 ∈ mw_good := mw_good_of (mw_tm8 (List.mem_of_getElem? (i := 126) rfl)) rfl
theorem mw_ca189 : mw_codeC 189 ∈ mw_good := mw_good_of (mw_tm8 (List.mem_of_getElem? (i := 122) rfl)) rfl
theorem mw_ca190 : mw_codeC 190 ∈ mw_good := mw_good_of (mw_tm8 (List.mem_of_getElem? (i := 130) rfl)) rfl
theorem mw_ca191 : mw_codeC 191 ∈ mw_good := mw_good_of (mw_tm8 (List.mem_of_getElem? (i := 9) rfl)) rfl
theorem mw_ca192 : mw_codeC 192 ∈ mw_good := mw_good_of (mw_tm7 (List.mem_of_getElem? (i := 101) rfl)) rfl
theorem mw_ca193 : mw_codeC 193 ∈ mw_good := mw_good_of (mw_tm8 (List.mem_of_getElem? (i := 196) rfl)) rfl
theorem mw_ca194 : mw_codeC 194 ∈ mw_good := mw_good_of (mw_tm8 (List.mem_of_getElem? (i := 21) rfl)) rfl
theorem mw_ca195 : mw_codeC 195 ∈ mw_good := mw_good_of (mw_tm8 (List.mem_of_getElem? (i := 33) rfl)) rfl
theorem mw_ca196 : mw_codeC 196 ∈ mw_good := mw_good_of (mw_tm8 (List.mem_of_getElem? (i := 37) rfl)) rfl
theorem mw_ca197 : mw_codeC 197 ∈ mw_good := mw_good_of (mw_tm10 (List.mem_of_getElem? (i := 117) rfl)) rfl
theorem mw_ca198 : mw_codeC 198 ∈ mw_good := mw_good_of (mw_tm10 (List.mem_of_getElem? (i := 131) rfl)) rfl
theorem mw_ca199 : mw_codeC 199 ∈ mw_good := mw_good_of (mw_tm10 (List.mem_of_getElem? (i := 127) rfl)) rfl
theorem mw_ca200 : mw_codeC 200 ∈ mw_good := mw_good_of (mw_tm10 (List.mem_of_getElem? (i := 124) rfl)) rfl
theorem mw_ca201 : mw_codeC 201 ∈ mw_good := mw_good_of (mw_tm10 (List.mem_of_getElem? (i := 121) rfl)) rfl
theorem mw_ca202 : mw_codeC 202 ∈ mw_good := mw_good_of (mw_tm10 (List.mem_of_getElem? (i := 135) rfl)) rfl
theorem mw_ca203 : mw_codeC 203 ∈ mw_good := mw_good_of (mw_tm10 (List.mem_of_getElem? (i := 186) rfl)) rfl
theorem mw_ca204 : mw_codeC 204 ∈ mw_good := mw_good_of (mw_tm10 (List.mem_of_getElem? (i := 182) rfl)) rfl
theorem mw_ca205 : mw_codeC 205 ∈ mw_good := mw_good_of (mw_tm10 (List.mem_of_getElem? (i := 143) rfl)) rfl
theorem mw_ca206 : mw_codeC 206 ∈ mw_good := mw_good_of (mw_tm10 (List.mem_of_getElem? (i := 198) rfl)) rfl
theorem mw_ca207 : mw_codeC 207 ∈ mw_good := mw_good_of (mw_tm10 (List.mem_of_getElem? (i := 160) rfl)) rfl
theorem mw_ca208 : mw_codeC 208 ∈ mw_good := mw_good_of (mw_tm10 (List.mem_of_getElem? (i := 205) rfl)) rfl
theorem mw_ca209 : mw_codeC 209 ∈ mw_good := mw_good_of (mw_tm10 (List.mem_of_getElem? (i := 163) rfl)) rfl
theorem mw_ca210 : mw_codeC 210 ∈ mw_good := mw_good_of (mw_tm10 (List.mem_of_getElem? (i := 157) rfl)) rfl
theorem mw_ca211 : mw_codeC 211 ∈ mw_good := mw_good_of (mw_tm10 (List.mem_of_getElem? (i := 190) rfl)) rfl
theorem mw_ca212 : mw_codeC 212 ∈ mw_good := mw_good_of (mw_tm10 (List.mem_of_getElem? (i := 194) rfl)) rfl
theorem mw_ca213 : mw_codeC 213 ∈ mw_good := mw_good_of (mw_tm10 (List.mem_of_getElem? (i := 202) rfl)) rfl
theorem mw_ca214 : mw_codeC 214 ∈ mw_good := mw_good_of (mw_tm10 (List.mem_of_getElem? (i := 151) rfl)) rfl
theorem mw_ca215 : mw_codeC 215 ∈ mw_good := mw_good_of (mw_tm10 (List.mem_of_getElem? (i := 209) rfl)) rfl
theorem mw_ca216 : mw_codeC 216 ∈ mw_good := mw_good_of (mw_tm10 (List.mem_of_getElem? (i := 214) rfl)) rfl
theorem mw_ca217 : mw_codeC 217 ∈ mw_good := mw_good_of (mw_tm10 (List.mem_of_getElem? (i := 219) rfl)) rfl
theorem mw_ca218 : mw_codeC 218 ∈ mw_good := mw_good_of (mw_tm10 (List.mem_of_getElem? (i := 229) rfl)) rfl
theorem mw_ca219 : mw_codeC 219 ∈ mw_good := mw_good_of (mw_tm10 (List.mem_of_getElem? (i := 226) rfl)) rfl
theorem mw_ca220 : mw_codeC 220 ∈ mw_good := mw_good_of (mw_tm11 (List.mem_of_getElem? (i := 49) rfl)) rfl
theorem mw_ca221 : mw_codeC 221 ∈ mw_good := mw_good_of (mw_tm11 (List.mem_of_getElem? (i := 69) rfl)) rfl
theorem mw_ca222 : mw_codeC 222 ∈ mw_good := mw_good_of (mw_tm11 (List.mem_of_getElem? (i := 65) rfl)) rfl
theorem mw_ca223 : mw_codeC 223 ∈ mw_good := mw_good_of (mw_tm11 (List.mem_of_getElem? (i := 81) rfl)) rfl
theorem mw_ca224 : mw_codeC 224 ∈ mw_good := mw_good_of (mw_tm11 (List.mem_of_getElem? (i := 117) rfl)) rfl
theorem mw_ca225 : mw_codeC 225 ∈ mw_good := mw_good_of (mw_tm10 (List.mem_of_getElem? (i := 178) rfl)) rfl
theorem mw_ca226 : mw_codeC 226 ∈ mw_good := mw_good_of (mw_tm11 (List.mem_of_getElem? (i := 178) rfl)) rfl
theorem mw_ca227 : mw_codeC 227 ∈ mw_good := mw_good_of (mw_tm11 (List.mem_of_getElem? (i := 105) rfl)) rfl
theorem mw_ca228 : mw_codeC 228 ∈ mw_good := mw_good_of (mw_tm10 (List.mem_of_getElem? (i := 174) rfl)) rfl
theorem mw_ca229 : mw_codeC 229 ∈ mw_good := mw_good_of (mw_tm11 (List.mem_of_getElem? (i := 61) rfl)) rfl
theorem mw_ca230 : mw_codeC 230 ∈ mw_good := mw_good_of (mw_tm10 (List.mem_of_getElem? (i := 169) rfl)) rfl
theorem mw_ca231 : mw_codeC 231 ∈ mw_good := mw_good_of (mw_tm11 (List.mem_of_getElem? (i := 113) rfl)) rfl
theorem mw_ca232 : mw_codeC 232 ∈ mw_good := mw_good_of (mw_tm11 (List.mem_of_getElem? (i := 101) rfl)) rfl
theorem mw_ca233 : mw_codeC 233 ∈ mw_good := mw_good_of (mw_tm11 (List.mem_of_getElem? (i := 143) rfl)) rfl
theorem mw_ca234 : mw_codeC 234 ∈ mw_good := mw_good_of (mw_tm11 (List.mem_of_getElem? (i := 161) rfl)) rfl
theorem mw_ca235 : mw_codeC 235 ∈ mw_good := mw_good_of (mw_tm11 (List.mem_of_getElem? (i := 136) rfl)) rfl
theorem mw_ca236 : mw_codeC 236 ∈ mw_good := mw_good_of (mw_tm11 (List.mem_of_getElem? (i := 158) rfl)) rfl
theorem mw_ca237 : mw_codeC 237 ∈ mw_good := mw_good_of (mw_tm11 (List.mem_of_getElem? (i := 140) rfl)) rfl
theorem mw_ca238 : mw_codeC 238 ∈ mw_good := mw_good_of (mw_tm11 (List.mem_of_getElem? (i := 151) rfl)) rfl
theorem mw_ca239 : mw_codeC 239 ∈ mw_good := mw_good_of (mw_tm11 (List.mem_of_getElem? (i := 125) rfl)) rfl
theorem mw_ca240 : mw_codeC 240 ∈ mw_good := mw_good_of (mw_tm11 (List.mem_of_getElem? (i := 147) rfl)) rfl
theorem mw_ca241 : mw_codeC 241 ∈ mw_good := mw_good_of (mw_tm11 (List.mem_of_getElem? (i := 129) rfl)) rfl
theorem mw_ca242 : mw_codeC 242 ∈ mw_good := mw_good_of (mw_tm11 (List.mem_of_getElem? (i := 133) rfl)) rfl
theorem mw_ca243 : mw_codeC 243 ∈ mw_good := mw_good_of (mw_tm11 (List.mem_of_getElem? (i := 165) rfl)) rfl
theorem mw_ca244 : mw_codeC 244 ∈ mw_good := mw_good_of (mw_tm11 (List.mem_of_getElem? (i := 155) rfl)) rfl
theorem mw_ca245 : mw_codeC 245 ∈ mw_good := mw_good_of (mw_tm11 (List.mem_of_getElem? (i := 85) rfl)) rfl
theorem mw_ca246 : mw_codeC 246 ∈ mw_good := mw_good_of (mw_tm11 (List.mem_of_getElem? (i := 77) rfl)) rfl
theorem mw_ca247 : mw_codeC 247 ∈ mw_good := mw_good_of (mw_tm11 (List.mem_of_getElem? (i := 89) rfl)) rfl
theorem mw_ca248 : mw_codeC 248 ∈ mw_good := mw_good_of (mw_tm11 (List.mem_of_getElem? (i := 93) rfl)) rfl
theorem mw_ca249 : mw_codeC 249 ∈ mw_good := mw_good_of (mw_tm11 (List.mem_of_getElem? (i := 174) rfl)) rfl
theorem mw_ca250 : mw_codeC 250 ∈ mw_good := mw_good_of (mw_tm11 (List.mem_of_getElem? (i := 169) rfl)) rfl
theorem mw_ca251 : mw_codeC 251 ∈ mw_good := mw_good_of (mw_tm11 (List.mem_of_getElem? (i := 182) rfl)) rfl
theorem mw_ca252 : mw_codeC 252 ∈ mw_good := mw_good_of (mw_tm11 (List.mem_of_getElem? (i := 186) rfl)) rfl
theorem mw_ca253 : mw_codeC 253 ∈ mw_good := mw_good_of (mw_tm11 (List.mem_of_getElem? (i := 195) rfl)) rfl
theorem mw_ca254 : mw_codeC 254 ∈ mw_good := mw_good_of (mw_tm11 (List.mem_of_getElem? (i := 191) rfl)) rfl
theorem mw_ca255 : mw_codeC 255 ∈ mw_good := mw_good_of (mw_tm11 (List.mem_of_getElem? (i := 199) rfl)) rfl
theorem mw_ca256 : mw_codeC 256 ∈ mw_good := mw_good_of (mw_tm11 (List.mem_of_getElem? (i := 203) rfl)) rfl
theorem mw_ca257 : mw_codeC 257 ∈ mw_good := mw_good_of (mw_tm11 (List.mem_of_getElem? (i := 97) rfl)) rfl
theorem mw_ca258 : mw_codeC 258 ∈ mw_good := mw_good_of (mw_tm11 (List.mem_of_getElem? (i := 109) rfl)) rfl
theorem mw_ca259 : mw_codeC 259 ∈ mw_good := mw_good_of (mw_tm11 (List.mem_of_getElem? (i := 121) rfl)) rfl
theorem mw_ca260 : mw_codeC 260 ∈ mw_good := mw_good_of (mw_tm11 (List.mem_of_getElem? (i := 57) rfl)) rfl
theorem mw_ca261 : mw_codeC 261 ∈ mw_good := mw_good_of (mw_tm11 (List.mem_of_getElem? (i := 53) rfl)) rfl
theorem mw_ca262 : mw_codeC 262 ∈ mw_good := mw_good_of (mw_tm11 (List.mem_of_getElem? (i := 73) rfl)) rfl
theorem mw_ca263 : mw_codeC 263 ∈ mw_good := mw_good_of (mw_tm11 (List.mem_of_getElem? (i := 207) rfl)) rfl
theorem mw_ca264 : mw_codeC 264 ∈ mw_good := mw_good_of (mw_tm11 (List.mem_of_getElem? (i := 211) rfl)) rfl
theorem mw_ca265 : mw_codeC 265 ∈ mw_good := mw_good_of (mw_tm10 (List.mem_of_getElem? (i := 147) rfl)) rfl
theorem mw_ca266 : mw_codeC 266 ∈ mw_good := mw_good_of (mw_tm11 (List.mem_of_getElem? (i := 219) rfl)) rfl
theorem mw_ca267 : mw_codeC 267 ∈ mw_good := mw_good_of (mw_tm11 (List.mem_of_getElem? (i := 238) rfl)) rfl
theorem mw_ca268 : mw_codeC 268 ∈ mw_good := mw_good_of (mw_tm11 (List.mem_of_getElem? (i := 235) rfl)) rfl
theorem mw_ca269 : mw_codeC 269 ∈ mw_good := mw_good_of (mw_tm11 (List.mem_of_getElem? (i := 231) rfl)) rfl
theorem mw_ca270 : mw_codeC 270 ∈ mw_good := mw_good_of (mw_tm11 (List.mem_of_getElem? (i := 227) rfl)) rfl
theorem mw_ca271 : mw_codeC 271 ∈ mw_good := mw_good_of (mw_tm12 (List.mem_of_getElem? (i := 2) rfl)) rfl
theorem mw_ca272 : mw_codeC 272 ∈ mw_good := mw_good_of (mw_tm12 (List.mem_of_getElem? (i := 10) rfl)) rfl
theorem mw_ca273 : mw_codeC 273 ∈ mw_good := mw_good_of (mw_tm11 (List.mem_of_getElem? (i := 223) rfl)) rfl
theorem mw_ca274 : mw_codeC 274 ∈ mw_good := mw_good_of (mw_tm12 (List.mem_of_getElem? (i := 14) rfl)) rfl
theorem mw_ca275 : mw_codeC 275 ∈ mw_good := mw_good_of (mw_tm11 (List.mem_of_getElem? (i := 215) rfl)) rfl
theorem mw_ca276 : mw_codeC 276 ∈ mw_good := mw_good_of (mw_tm12 (List.mem_of_getElem? (i := 34) rfl)) rfl
theorem mw_ca277 : mw_codeC 277 ∈ mw_good := mw_good_of (mw_tm12 (List.mem_of_getElem? (i := 42) rfl)) rfl
theorem mw_ca278 : mw_codeC 278 ∈ mw_good := mw_good_of (mw_tm12 (List.mem_of_getElem? (i := 38) rfl)) rfl
theorem mw_ca279 : mw_codeC 279 ∈ mw_good := mw_good_of (mw_tm12 (List.mem_of_getElem? (i := 46) rfl)) rfl
theorem mw_ca280 : mw_codeC 280 ∈ mw_good := mw_good_of (mw_tm12 (List.mem_of_getElem? (i := 30) rfl)) rfl
theorem mw_ca281 : mw_codeC 281 ∈ mw_good := mw_good_of (mw_tm12 (List.mem_of_getElem? (i := 26) rfl)) rfl
theorem mw_ca282 : mw_codeC 282 ∈ mw_good := mw_good_of (mw_tm12 (List.mem_of_getElem? (i := 22) rfl)) rfl
theorem mw_ca283 : mw_codeC 283 ∈ mw_good := mw_good_of (mw_tm12 (List.mem_of_getElem? (i := 54) rfl)) rfl
theorem mw_ca284 : mw_codeC 284 ∈ mw_good := mw_good_of (mw_tm12 (List.mem_of_getElem? (i := 50) rfl)) rfl
theorem mw_ca285 : mw_codeC 285 ∈ mw_good := mw_good_of (mw_tm12 (List.mem_of_getElem? (i := 77) rfl)) rfl
theorem mw_ca286 : mw_codeC 286 ∈ mw_good := mw_good_of (mw_tm12 (List.mem_of_getElem? (i := 66) rfl)) rfl
theorem mw_ca287 : mw_codeC 287 ∈ mw_good := mw_good_of (mw_tm12 (List.mem_of_getElem? (i := 81) rfl)) rfl
theorem mw_ca288 : mw_codeC 288 ∈ mw_good := mw_good_of (mw_tm12 (List.mem_of_getElem? (i := 85) rfl)) rfl
theorem mw_ca289 : mw_codeC 289 ∈ mw_good := mw_good_of (mw_tm12 (List.mem_of_getElem? (i := 62) rfl)) rfl
theorem mw_ca290 : mw_codeC 290 ∈ mw_good := mw_good_of (mw_tm12 (List.mem_of_getElem? (i := 70) rfl)) rfl
theorem mw_ca291 : mw_codeC 291 ∈ mw_good := mw_good_of (mw_tm12 (List.mem_of_getElem? (i := 74) rfl)) rfl
theorem mw_ca292 : mw_codeC 292 ∈ mw_good := mw_good_of (mw_tm12 (List.mem_of_getElem? (i := 58) rfl)) rfl
theorem mw_ca293 : mw_codeC 293 ∈ mw_good := mw_good_of (mw_tm12 (List.mem_of_getElem? (i := 89) rfl)) rfl
theorem mw_ca294 : mw_codeC 294 ∈ mw_good := mw_good_of (mw_tm12 (List.mem_of_getElem? (i := 18) rfl)) rfl
theorem mw_ca295 : mw_codeC 295 ∈ mw_good := mw_good_of (mw_tm12 (List.mem_of_getElem? (i := 105) rfl)) rfl
theorem mw_ca296 : mw_codeC 296 ∈ mw_good := mw_good_of (mw_tm12 (List.mem_of_getElem? (i := 117) rfl)) rfl
theorem mw_ca297 : mw_codeC 297 ∈ mw_good := mw_good_of (mw_tm12 (List.mem_of_getElem? (i := 97) rfl)) rfl
theorem mw_ca298 : mw_codeC 298 ∈ mw_good := mw_good_of (mw_tm12 (List.mem_of_getElem? (i := 101) rfl)) rfl
theorem mw_ca299 : mw_codeC 299 ∈ mw_good := mw_good_of (mw_tm12 (List.mem_of_getElem? (i := 133) rfl)) rfl
theorem mw_ca300 : mw_codeC 300 ∈ mw_good := mw_good_of (mw_tm12 (List.mem_of_getElem? (i := 157) rfl)) rfl
theorem mw_ca301 : mw_codeC 301 ∈ mw_good := mw_good_of (mw_tm12 (List.mem_of_getElem? (i := 113) rfl)) rfl
theorem mw_ca302 : mw_codeC 302 ∈ mw_good := mw_good_of (mw_tm12 (List.mem_of_getElem? (i := 125) rfl)) rfl
theorem mw_ca303 : mw_codeC 303 ∈ mw_good := mw_good_of (mw_tm12 (List.mem_of_getElem? (i := 121) rfl)) rfl
theorem mw_ca304 : mw_codeC 304 ∈ mw_good := mw_good_of (mw_tm12 (List.mem_of_getElem? (i := 129) rfl)) rfl
theorem mw_ca305 : mw_codeC 305 ∈ mw_good := mw_good_of (mw_tm12 (List.mem_of_getElem? (i := 137) rfl)) rfl
theorem mw_ca306 : mw_codeC 306 ∈ mw_good := mw_good_of (mw_tm12 (List.mem_of_getElem? (i := 109) rfl)) rfl
theorem mw_ca307 : mw_codeC 307 ∈ mw_good := mw_good_of (mw_tm12 (List.mem_of_getElem? (i := 141) rfl)) rfl
theorem mw_ca308 : mw_codeC 308 ∈ mw_good := mw_good_of (mw_tm12 (List.mem_of_getElem? (i := 145) rfl)) rfl
theorem mw_ca309 : mw_codeC 309 ∈ mw_good := mw_good_of (mw_tm12 (List.mem_of_getElem? (i := 149) rfl)) rfl
theorem mw_ca310 : mw_codeC 310 ∈ mw_good := mw_good_of (mw_tm12 (List.mem_of_getElem? (i := 161) rfl)) rfl
theorem mw_ca311 : mw_codeC 311 ∈ mw_good := mw_good_of (mw_tm12 (List.mem_of_getElem? (i := 153) rfl)) rfl
theorem mw_ca312 : mw_codeC 312 ∈ mw_good := mw_good_of (mw_tm12 (List.mem_of_getElem? (i := 165) rfl)) rfl
theorem mw_ca313 : mw_codeC 313 ∈ mw_good := mw_good_of (mw_tm12 (List.mem_of_getElem? (i := 172) rfl)) rfl
theorem mw_ca314 : mw_codeC 314 ∈ mw_good := mw_good_of (mw_tm12 (List.mem_of_getElem? (i := 176) rfl)) rfl
theorem mw_ca315 : mw_codeC 315 ∈ mw_good := mw_good_of (mw_tm12 (List.mem_of_getElem? (i := 180) rfl)) rfl
theorem mw_ca316 : mw_codeC 316 ∈ mw_good := mw_good_of (mw_tm12 (List.mem_of_getElem? (i := 169) rfl)) rfl
theorem mw_ca317 : mw_codeC 317 ∈ mw_good := mw_good_of (mw_tm12 (List.mem_of_getElem? (i := 184) rfl)) rfl
theorem mw_ca318 : mw_codeC 318 ∈ mw_good := mw_good_of (mw_tm12 (List.mem_of_getElem? (i := 93) rfl)) rfl
theorem mw_ca319 : mw_codeC 319 ∈ mw_good := mw_good_of (mw_tm10 (List.mem_of_getElem? (i := 139) rfl)) rfl
theorem mw_ca320 : mw_codeC 320 ∈ mw_good := mw_good_of (mw_tm12 (List.mem_of_getElem? (i := 192) rfl)) rfl
theorem mw_ca321 : mw_codeC 321 ∈ mw_good := mw_good_of (mw_tm12 (List.mem_of_getElem? (i := 188) rfl)) rfl
theorem mw_ca322 : mw_codeC 322 ∈ mw_good := mw_good_of (mw_tm12 (List.mem_of_getElem? (i := 204) rfl)) rfl
theorem mw_ca323 : mw_codeC 323 ∈ mw_good := mw_good_of (mw_tm12 (List.mem_of_getElem? (i := 212) rfl)) rfl
theorem mw_ca324 : mw_codeC 324 ∈ mw_good := mw_good_of (mw_tm12 (List.mem_of_getElem? (i := 216) rfl)) rfl
theorem mw_ca325 : mw_codeC 325 ∈ mw_good := mw_good_of (mw_tm12 (List.mem_of_getElem? (i := 220) rfl)) rfl
theorem mw_ca326 : mw_codeC 326 ∈ mw_good := mw_good_of (mw_tm12 (List.mem_of_getElem? (i := 224) rfl)) rfl
theorem mw_ca327 : mw_codeC 327 ∈ mw_good := mw_good_of (mw_tm13 (List.mem_of_getElem? (i := 44) rfl)) rfl
theorem mw_ca328 : mw_codeC 328 ∈ mw_good := mw_good_of (mw_tm13 (List.mem_of_getElem? (i := 20) rfl)) rfl
theorem mw_ca329 : mw_codeC 329 ∈ mw_good := mw_good_of (mw_tm13 (List.mem_of_getElem? (i := 16) rfl)) rfl
theorem mw_ca330 : mw_codeC 330 ∈ mw_good := mw_good_of (mw_tm13 (List.mem_of_getElem? (i := 8) rfl)) rfl
theorem mw_ca331 : mw_codeC 331 ∈ mw_good := mw_good_of (mw_tm13 (List.mem_of_getElem? (i := 12) rfl)) rfl
theorem mw_ca332 : mw_codeC 332 ∈ mw_good := mw_good_of (mw_tm12 (List.mem_of_getElem? (i := 236) rfl)) rfl
theorem mw_ca333 : mw_codeC 333 ∈ mw_good := mw_good_of (mw_tm13 (List.mem_of_getElem? (i := 64) rfl)) rfl
theorem mw_ca334 : mw_codeC 334 ∈ mw_good := mw_good_of (mw_tm13 (List.mem_of_getElem? (i := 4) rfl)) rfl
theorem mw_ca335 : mw_codeC 335 ∈ mw_good := mw_good_of (mw_tm13 (List.mem_of_getElem? (i := 0) rfl)) rfl
theorem mw_ca336 : mw_codeC 336 ∈ mw_good := mw_good_of (mw_tm13 (List.mem_of_getElem? (i := 24) rfl)) rfl
theorem mw_ca337 : mw_codeC 337 ∈ mw_good := mw_good_of (mw_tm13 (List.mem_of_getElem? (i := 28) rfl)) rfl
theorem mw_ca338 : mw_codeC 338 ∈ mw_good := mw_good_of (mw_tm13 (List.mem_of_getElem? (i := 36) rfl)) rfl
theorem mw_ca339 : mw_codeC 339 ∈ mw_good := mw_good_of (mw_tm13 (List.mem_of_getElem? (i := 52) rfl)) rfl
theorem mw_ca340 : mw_codeC 340 ∈ mw_good := mw_good_of (mw_tm13 (List.mem_of_getElem? (i := 40) rfl)) rfl
theorem mw_ca341 : mw_codeC 341 ∈ mw_good := mw_good_of (mw_tm13 (List.mem_of_getElem? (i := 56) rfl)) rfl
theorem mw_ca342 : mw_codeC 342 ∈ mw_good := mw_good_of (mw_tm13 (List.mem_of_getElem? (i := 60) rfl)) rfl
theorem mw_ca343 : mw_codeC 343 ∈ mw_good := mw_good_of (mw_tm12 (List.mem_of_getElem? (i := 208) rfl)) rfl
theorem mw_ca344 : mw_codeC 344 ∈ mw_good := mw_good_of (mw_tm13 (List.mem_of_getElem? (i := 32) rfl)) rfl
theorem mw_ca345 : mw_codeC 345 ∈ mw_good := mw_good_of (mw_tm13 (List.mem_of_getElem? (i := 48) rfl)) rfl
theorem mw_ca346 : mw_codeC 346 ∈ mw_good := mw_good_of (mw_tm13 (List.mem_of_getElem? (i := 76) rfl)) rfl
theorem mw_ca347 : mw_codeC 347 ∈ mw_good := mw_good_of (mw_tm13 (List.mem_of_getElem? (i := 72) rfl)) rfl
theorem mw_ca348 : mw_codeC 348 ∈ mw_good := mw_good_of (mw_tm13 (List.mem_of_getElem? (i := 84) rfl)) rfl
theorem mw_ca349 : mw_codeC 349 ∈ mw_good := mw_good_of (mw_tm12 (List.mem_of_getElem? (i := 196) rfl)) rfl
theorem mw_ca350 : mw_codeC 350 ∈ mw_good := mw_good_of (mw_tm12 (List.mem_of_getElem? (i := 200) rfl)) rfl
theorem mw_ca351 : mw_codeC 351 ∈ mw_good := mw_good_of (mw_tm12 (List.mem_of_getElem? (i := 232) rfl)) rfl
theorem mw_ca352 : mw_codeC 352 ∈ mw_good := mw_good_of (mw_tm12 (List.mem_of_getElem? (i := 228) rfl)) rfl
theorem mw_ca353 : mw_codeC 353 ∈ mw_good := mw_good_of (mw_tm13 (List.mem_of_getElem? (i := 68) rfl)) rfl
theorem mw_ca354 : mw_codeC 354 ∈ mw_good := mw_good_of (mw_tm13 (List.mem_of_getElem? (i := 80) rfl)) rfl
theorem mw_ca355 : mw_codeC 355 ∈ mw_good := mw_good_of (mw_tm13 (List.mem_of_getElem? (i := 88) rfl)) rfl
theorem mw_ca356 : mw_codeC 356 ∈ mw_good := mw_good_of (mw_tm13 (List.mem_of_getElem? (i := 92) rfl)) rfl
theorem mw_ca357 : mw_codeC 357 ∈ mw_good := mw_good_of (mw_tm13 (List.mem_of_getElem? (i := 100) rfl)) rfl
theorem mw_ca358 : mw_codeC 358 ∈ mw_good := mw_good_of (mw_tm13 (List.mem_of_getElem? (i := 96) rfl)) rfl
theorem mw_ca359 : mw_codeC 359 ∈ mw_good := mw_good_of (mw_tm13 (List.mem_of_getElem? (i := 104) rfl)) rfl
theorem mw_ca360 : mw_codeC 360 ∈ mw_good := mw_good_of (mw_tm13 (List.mem_of_getElem? (i := 108) rfl)) rfl
theorem mw_ca361 : mw_codeC 361 ∈ mw_good := mw_good_of (mw_tm13 (List.mem_of_getElem? (i := 112) rfl)) rfl
theorem mw_ca362 : mw_codeC 362 ∈ mw_good := mw_good_of (mw_tm13 (List.mem_of_getElem? (i := 116) rfl)) rfl
theorem mw_ca363 : mw_codeC 363 ∈ mw_good := mw_good_of (mw_tm13 (List.mem_of_getElem? (i := 120) rfl)) rfl
theorem mw_ca364 : mw_codeC 364 ∈ mw_good := mw_good_of (mw_tm13 (List.mem_of_getElem? (i := 124) rfl)) rfl
theorem mw_ca365 : mw_codeC 365 ∈ mw_good := mw_good_of (mw_tm13 (List.mem_of_getElem? (i := 128) rfl)) rfl
theorem mw_ca366 : mw_codeC 366 ∈ mw_good := mw_good_of (mw_tm5 (List.mem_of_getElem? (i := 223) rfl)) rfl
theorem mw_ca367 : mw_codeC 367 ∈ mw_good := mw_good_of (mw_tm6 (List.mem_of_getElem? (i := 46) rfl)) rfl
theorem mw_ca368 : mw_codeC 368 ∈ mw_good := mw_good_of (mw_tm6 (List.mem_of_getElem? (i := 4) rfl)) rfl
