/-! LOCALS: what returns with few locals returns alike with more of them, in any order -/
def lS (l l' : mj_L) : Prop := ∀ q ∈ l, mj_get q.1 l' = some q.2
theorem lS_n (l' : mj_L) : lS [] l' := sorry
theorem lS_c {i : Nat} {x : mj_V} {l l' : mj_L} (h1 : mj_get i l' = some x) (h2 : lS l l') : lS ((i, x) :: l) l' := sorry
theorem lS_get_mem {i : Nat} {x : mj_V} : ∀ {l : mj_L}, mj_get i l = some x → (i, x) ∈ l := sorry
theorem lS.get {l l' : mj_L} (hl : lS l l') {i : Nat} {x : mj_V} (h : mj_get i l = some x) : mj_get i l' = some x := sorry
theorem mj_get_filter (f : Nat × mj_V → Bool) {i : Nat} {x : mj_V} (hf : f (i, x) = true) : ∀ {l : mj_L}, mj_get i l = some x → mj_get i (l.filter f) = some x := sorry
theorem lS.fil {l l' : mj_L} (hl : lS l l') (f : Nat × mj_V → Bool) (i : Nat) (v : mj_V) (hf : ∀ q, f q = true → Nat.beq i q.1 = false) : lS ((i, v) :: l.filter f) ((i, v) :: l'.filter f) := sorry
theorem nbeq_sym (a b : Nat) (h : (!(Nat.beq a b)) = true) : Nat.beq b a = false := sorry
theorem lS.st1 {l l' : mj_L} (hl : lS l l') (i : Nat) (v : mj_V) : lS (mj_st1 l i v) (mj_st1 l' i v) := sorry
theorem lS.st2 {l l' : mj_L} (hl : lS l l') (i : Nat) (v : mj_V) : lS (mj_st2 l i v) (mj_st2 l' i v) := sorry
abbrev fS (s s' : mj_F) : Prop := s.1 = s'.1 ∧ lS s.2.1 s'.2.1 ∧ s.2.2 = s'.2.2
def mS (x x' : mj_T) : Prop := ∀ (k k' : mj_F → Option mj_O) (cl cl' : Nat → List mj_V → mj_H → Option mj_O) (r : mj_O), (∀ s s' r, fS s s' → k s = some r → k' s' = some r) → (∀ m as h r, cl m as h = some r → cl' m as h = some r) → mj_do x k cl = some r → mj_do x' k' cl' = some r
theorem mS_n (x' : mj_T) : mS none x' := sorry
theorem mS_gd {l l' : mj_L} (hl : lS l l') (b : Bool) (n : Nat) (st : List mj_V) (h : mj_H) : mS (mj_gd b n l st h) (mj_gd b n l' st h) := sorry
theorem mS_go {l l' : mj_L} (hl : lS l l') (n : Nat) (st : List mj_V) (h : mj_H) : mS (mj_go n l st h) (mj_go n l' st h) := sorry
theorem mS_br {l l' : mj_L} (hl : lS l l') (g b : Bool) (n m : Nat) (st : List mj_V) (h : mj_H) : mS (some (g, .inr (.inl (b, (n, l, st, h), (m, l, st, h))))) (some (g, .inr (.inl (b, (n, l', st, h), (m, l', st, h))))) := sorry
theorem mS_sw {l l' : mj_L} (hl : lS l l') (x : Int32) (cs : List (Int32 × Nat)) (n : Nat) (st : List mj_V) (h : mj_H) : mS (some (true, .inr (.inr (.inl (x, cs, (n, l, st, h)))))) (some (true, .inr (.inr (.inl (x, cs, (n, l', st, h)))))) := sorry
theorem mS_ca {l l' : mj_L} (hl : lS l l') (g : Bool) (m kd : Nat) (as : List mj_V) (n : Nat) (st : List mj_V) (h : mj_H) : mS (some (g, .inr (.inr (.inr (.inl (m, kd, as, (n, l, st, h))))))) (some (g, .inr (.inr (.inr (.inl (m, kd, as, (n, l', st, h))))))) := sorry
theorem mS_rt (g : Bool) (o : mj_O) : mS (mj_rt g o) (mj_rt g o) := sorry
theorem mS_bif {b : Bool} {x x' y y' : mj_T} (h1 : mS x x') (h2 : mS y y') : mS (bif b then x else y) (bif b then x' else y') := sorry
theorem s_mo_load {l l' : mj_L} (hl : lS l l') (n : Nat) (a : Nat) (b : Nat) (st : List mj_V) (h : mj_H) : mS (mo_load n a b l st h) (mo_load n a b l' st h) := sorry
theorem s_mo_st1 {l l' : mj_L} (hl : lS l l') (n : Nat) (a : Nat) (b : Nat) (st : List mj_V) (h : mj_H) : mS (mo_st1 n a b l st h) (mo_st1 n a b l' st h) := sorry
theorem s_mo_st2 {l l' : mj_L} (hl : lS l l') (n : Nat) (a : Nat) (st : List mj_V) (h : mj_H) : mS (mo_st2 n a l st h) (mo_st2 n a l' st h) := sorry
theorem s_mo_inc {l l' : mj_L} (hl : lS l l') (n : Nat) (a : Nat) (v : Int32) (st : List mj_V) (h : mj_H) : mS (mo_inc n a v l st h) (mo_inc n a v l' st h) := sorry
theorem s_mo_if {l l' : mj_L} (hl : lS l l') (n : Nat) (a : Nat) (b : Nat) (st : List mj_V) (h : mj_H) : mS (mo_if n a b l st h) (mo_if n a b l' st h) := sorry
theorem s_mo_icmp {l l' : mj_L} (hl : lS l l') (n : Nat) (a : Nat) (b : Nat) (st : List mj_V) (h : mj_H) : mS (mo_icmp n a b l st h) (mo_icmp n a b l' st h) := sorry
theorem s_mo_acmp {l l' : mj_L} (hl : lS l l') (n : Nat) (a : Nat) (st : List mj_V) (h : mj_H) : mS (mo_acmp n a l st h) (mo_acmp n a l' st h) := sorry
theorem s_mo_acmn {l l' : mj_L} (hl : lS l l') (n : Nat) (a : Nat) (st : List mj_V) (h : mj_H) : mS (mo_acmn n a l st h) (mo_acmn n a l' st h) := sorry
theorem s_mo_getI {l l' : mj_L} (hl : lS l l') (G : mj_G) (n : Nat) (a : Nat) (b : Nat) (st : List mj_V) (h : mj_H) : mS (mo_getI G n a b l st h) (mo_getI G n a b l' st h) := sorry
theorem s_mo_getL {l l' : mj_L} (hl : lS l l') (G : mj_G) (n : Nat) (a : Nat) (b : Nat) (st : List mj_V) (h : mj_H) : mS (mo_getL G n a b l st h) (mo_getL G n a b l' st h) := sorry
theorem s_mo_getS {l l' : mj_L} (hl : lS l l') (G : mj_G) (n : Nat) (a : Nat) (b : Nat) (st : List mj_V) (h : mj_H) : mS (mo_getS G n a b l st h) (mo_getS G n a b l' st h) := sorry
theorem s_mo_getD {l l' : mj_L} (hl : lS l l') (G : mj_G) (n : Nat) (a : Nat) (b : Nat) (c : Nat) (st : List mj_V) (h : mj_H) : mS (mo_getD G n a b c l st h) (mo_getD G n a b c l' st h) := sorry
theorem s_mo_putI {l l' : mj_L} (hl : lS l l') (G : mj_G) (n : Nat) (a : Nat) (b : Nat) (st : List mj_V) (h : mj_H) : mS (mo_putI G n a b l st h) (mo_putI G n a b l' st h) := sorry
theorem s_mo_putZ {l l' : mj_L} (hl : lS l l') (G : mj_G) (n : Nat) (a : Nat) (b : Nat) (st : List mj_V) (h : mj_H) : mS (mo_putZ G n a b l st h) (mo_putZ G n a b l' st h) := sorry
theorem s_mo_putL {l l' : mj_L} (hl : lS l l') (G : mj_G) (n : Nat) (a : Nat) (b : Nat) (st : List mj_V) (h : mj_H) : mS (mo_putL G n a b l st h) (mo_putL G n a b l' st h) := sorry
theorem s_mo_putD {l l' : mj_L} (hl : lS l l') (G : mj_G) (n : Nat) (a : Nat) (b : Nat) (c : Nat) (st : List mj_V) (h : mj_H) : mS (mo_putD G n a b c l st h) (mo_putD G n a b c l' st h) := sorry
theorem s_mo_ald {l l' : mj_L} (hl : lS l l') (G : mj_G) (n : Nat) (b : Nat) (st : List mj_V) (h : mj_H) : mS (mo_ald G n b l st h) (mo_ald G n b l' st h) := sorry
theorem s_mo_ast {l l' : mj_L} (hl : lS l l') (G : mj_G) (n : Nat) (b : Nat) (st : List mj_V) (h : mj_H) : mS (mo_ast G n b l st h) (mo_ast G n b l' st h) := sorry
theorem s_mo_bi {l l' : mj_L} (hl : lS l l') (n : Nat) (b : Nat) (st : List mj_V) (h : mj_H) : mS (mo_bi n b l st h) (mo_bi n b l' st h) := sorry
theorem s_mo_div {l l' : mj_L} (hl : lS l l') (n : Nat) (st : List mj_V) (h : mj_H) : mS (mo_div n l st h) (mo_div n l' st h) := sorry
theorem s_mo_rem {l l' : mj_L} (hl : lS l l') (n : Nat) (st : List mj_V) (h : mj_H) : mS (mo_rem n l st h) (mo_rem n l' st h) := sorry
theorem s_mo_neg {l l' : mj_L} (hl : lS l l') (n : Nat) (st : List mj_V) (h : mj_H) : mS (mo_neg n l st h) (mo_neg n l' st h) := sorry
theorem s_mo_bl {l l' : mj_L} (hl : lS l l') (n : Nat) (b : Nat) (st : List mj_V) (h : mj_H) : mS (mo_bl n b l st h) (mo_bl n b l' st h) := sorry
theorem s_mo_lshl {l l' : mj_L} (hl : lS l l') (n : Nat) (st : List mj_V) (h : mj_H) : mS (mo_lshl n l st h) (mo_lshl n l' st h) := sorry
theorem s_mo_lcmp {l l' : mj_L} (hl : lS l l') (n : Nat) (st : List mj_V) (h : mj_H) : mS (mo_lcmp n l st h) (mo_lcmp n l' st h) := sorry
theorem s_mo_i2l {l l' : mj_L} (hl : lS l l') (n : Nat) (st : List mj_V) (h : mj_H) : mS (mo_i2l n l st h) (mo_i2l n l' st h) := sorry
theorem s_mo_l2i {l l' : mj_L} (hl : lS l l') (n : Nat) (st : List mj_V) (h : mj_H) : mS (mo_l2i n l st h) (mo_l2i n l' st h) := sorry
theorem s_mo_i2b {l l' : mj_L} (hl : lS l l') (n : Nat) (st : List mj_V) (h : mj_H) : mS (mo_i2b n l st h) (mo_i2b n l' st h) := sorry
theorem s_mo_dup {l l' : mj_L} (hl : lS l l') (n : Nat) (st : List mj_V) (h : mj_H) : mS (mo_dup n l st h) (mo_dup n l' st h) := sorry
theorem s_mo_dup2 {l l' : mj_L} (hl : lS l l') (n : Nat) (st : List mj_V) (h : mj_H) : mS (mo_dup2 n l st h) (mo_dup2 n l' st h) := sorry
theorem s_mo_pop {l l' : mj_L} (hl : lS l l') (n : Nat) (st : List mj_V) (h : mj_H) : mS (mo_pop n l st h) (mo_pop n l' st h) := sorry
theorem s_mo_len {l l' : mj_L} (hl : lS l l') (G : mj_G) (n : Nat) (st : List mj_V) (h : mj_H) : mS (mo_len G n l st h) (mo_len G n l' st h) := sorry
theorem s_mo_sw {l l' : mj_L} (hl : lS l l') (G : mj_G) (a : Nat) (c : Nat) (st : List mj_V) (h : mj_H) : mS (mo_sw G a c l st h) (mo_sw G a c l' st h) := sorry
theorem s_mo_cs {l l' : mj_L} (hl : lS l l') (n : Nat) (a : Nat) (b : Nat) (c : Nat) (v : Int32) (st : List mj_V) (h : mj_H) : mS (mo_cs n a b c v l st h) (mo_cs n a b c v l' st h) := sorry
theorem s_mo_cv {l l' : mj_L} (hl : lS l l') (G : mj_G) (n : Nat) (a : Nat) (b : Nat) (c : Nat) (e : Nat) (v : Int32) (st : List mj_V) (h : mj_H) : mS (mo_cv G n a b c e v l st h) (mo_cv G n a b c e v l' st h) := sorry
theorem s_mo_rv {l l' : mj_L} (hl : lS l l')  (st : List mj_V) (h : mj_H) : mS (mo_rv st h) (mo_rv st h) := sorry
theorem s_mo_ri {l l' : mj_L} (hl : lS l l')  (st : List mj_V) (h : mj_H) : mS (mo_ri st h) (mo_ri st h) := sorry
theorem s_mo_rz {l l' : mj_L} (hl : lS l l')  (st : List mj_V) (h : mj_H) : mS (mo_rz st h) (mo_rz st h) := sorry
theorem s_mo_rl {l l' : mj_L} (hl : lS l l')  (st : List mj_V) (h : mj_H) : mS (mo_rl st h) (mo_rl st h) := sorry
theorem s_mo_ra {l l' : mj_L} (hl : lS l l')  (st : List mj_V) (h : mj_H) : mS (mo_ra st h) (mo_ra st h) := sorry
theorem s_mo_sl {l l' : mj_L} (hl : lS l l') (G : mj_G) (n : Nat) (st : List mj_V) (h : mj_H) : mS (mo_sl G n l st h) (mo_sl G n l' st h) := sorry
theorem s_mo_sc {l l' : mj_L} (hl : lS l l') (G : mj_G) (n : Nat) (st : List mj_V) (h : mj_H) : mS (mo_sc G n l st h) (mo_sc G n l' st h) := sorry
theorem s_mo_si {l l' : mj_L} (hl : lS l l') (G : mj_G) (n : Nat) (st : List mj_V) (h : mj_H) : mS (mo_si G n l st h) (mo_si G n l' st h) := sorry
theorem s_mo_wt {l l' : mj_L} (hl : lS l l') (n : Nat) (st : List mj_V) (h : mj_H) : mS (mo_wt n l st h) (mo_wt n l' st h) := sorry
theorem s_mo_or {l l' : mj_L} (hl : lS l l') (n : Nat) (a : Nat) (st : List mj_V) (h : mj_H) : mS (mo_or n a l st h) (mo_or n a l' st h) := sorry
theorem s_mj_i0 {l l' : mj_L} (hl : lS l l') (G : mj_G) (n a b c e : Nat) (v : Int32) (st : List mj_V) (h : mj_H) (o : Nat) : mS (mj_i0 G n a b c e v l st h o) (mj_i0 G n a b c e v l' st h o) := sorry
theorem s_mj_i1 {l l' : mj_L} (hl : lS l l') (G : mj_G) (n a b c e : Nat) (v : Int32) (st : List mj_V) (h : mj_H) (o : Nat) : mS (mj_i1 G n a b c e v l st h o) (mj_i1 G n a b c e v l' st h o) := sorry
theorem s_mj_i2 {l l' : mj_L} (hl : lS l l') (G : mj_G) (n a b c e : Nat) (v : Int32) (st : List mj_V) (h : mj_H) (o : Nat) : mS (mj_i2 G n a b c e v l st h o) (mj_i2 G n a b c e v l' st h o) := sorry
theorem s_mj_i3 {l l' : mj_L} (hl : lS l l') (G : mj_G) (n a b c e : Nat) (v : Int32) (st : List mj_V) (h : mj_H) (o : Nat) : mS (mj_i3 G n a b c e v l st h o) (mj_i3 G n a b c e v l' st h o) := sorry
theorem s_mj_i4 {l l' : mj_L} (hl : lS l l') (G : mj_G) (n a b c e : Nat) (v : Int32) (st : List mj_V) (h : mj_H) (o : Nat) : mS (mj_i4 G n a b c e v l st h o) (mj_i4 G n a b c e v l' st h o) := sorry
theorem s_mj_i5 {l l' : mj_L} (hl : lS l l') (G : mj_G) (n a b c e : Nat) (v : Int32) (st : List mj_V) (h : mj_H) (o : Nat) : mS (mj_i5 G n a b c e v l st h o) (mj_i5 G n a b c e v l' st h o) := sorry
theorem s_mj_i6 {l l' : mj_L} (hl : lS l l') (G : mj_G) (n a b c e : Nat) (v : Int32) (st : List mj_V) (h : mj_H) (o : Nat) : mS (mj_i6 G n a b c e v l st h o) (mj_i6 G n a b c e v l' st h o) := sorry
theorem s_mj_i7 {l l' : mj_L} (hl : lS l l') (G : mj_G) (n a b c e : Nat) (v : Int32) (st : List mj_V) (h : mj_H) (o : Nat) : mS (mj_i7 G n a b c e v l st h o) (mj_i7 G n a b c e v l' st h o) := sorry
theorem s_mj_i {l l' : mj_L} (hl : lS l l') (G : mj_G) (n a b c e : Nat) (v : Int32) (st : List mj_V) (h : mj_H) (o : Nat) : mS (mj_i G n a b c e v l st h o) (mj_i G n a b c e v l' st h o) := sorry
theorem mj_ex_sub (G : mj_G) : ∀ (n d : Nat) (q : Nat → Option mj_P) (s s' : mj_F) (r : mj_O), fS s s' → mj_ex G n d q s = some r → mj_ex G n d q s' = some r := sorry
theorem mj_sub {G : mj_G} {d : Nat} {q : Nat → Option mj_P} {pc : Nat} {l l' : mj_L} {st : List mj_V} {h : mj_H} {r : mj_O} (hl : lS l l') (hr : mj_R G d q (pc, l, st, h) = some r) : mj_R G d q (pc, l', st, h) = some r := sorry
theorem mP_sub {G : mj_G} {d : Nat} {q : Nat → Option mj_P} {pc : Nat} {l l' : mj_L} {st : List mj_V} {h : mj_H} {Q : Option mj_V → mj_H → Prop} (p : mP (mj_R G d q (pc, l, st, h)) Q) (hl : lS l l') : mP (mj_R G d q (pc, l', st, h)) Q := sorry
