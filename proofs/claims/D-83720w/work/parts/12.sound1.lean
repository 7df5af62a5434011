/-! SOUNDNESS of the small machine, first part: what an operation's entry says of the real instruction -/
def mw_find (i : Nat) : List (Nat × Nat × Nat × Nat) → Option (Nat × Nat × Nat)
  | [] => none
  | q :: r => bif Nat.beq q.1 i then some q.2 else mw_find i r
theorem mw_find_mem {i : Nat} {x : Nat × Nat × Nat} : ∀ {l : List (Nat × Nat × Nat × Nat)}, mw_find i l = some x → (i, x) ∈ l
  | q :: r, h => by
    unfold mw_find at h
    cases hb : Nat.beq q.1 i with
    | true =>
      rw [hb] at h
      have h1 : q.1 = i := Nat.eq_of_beq_eq_true hb
      have h2 : q.2 = x := Option.some.inj h
      rw [← h1, ← h2]
      exact List.mem_cons_self
    | false =>
      rw [hb] at h
      exact List.mem_cons_of_mem _ (mw_find_mem h)
theorem mj_get_mem {i : Nat} {x : mj_V} : ∀ {l : mj_L}, mj_get i l = some x → (i, x) ∈ l
  | q :: r, h => by
    unfold mj_get at h
    cases hb : Nat.beq q.1 i with
    | true =>
      rw [hb] at h
      have h1 : q.1 = i := Nat.eq_of_beq_eq_true hb
      have h2 : q.2 = x := Option.some.inj h
      rw [← h1, ← h2]
      exact List.mem_cons_self
    | false =>
      rw [hb] at h
      exact List.mem_cons_of_mem _ (mj_get_mem h)
def mw_cd (c : ClassFile.Cond) : Nat := match c with
  | .eq => 0
  | .ne => 1
  | .lt => 2
  | .ge => 3
  | .gt => 4
  | .le => 5
def mw_nf (ci : Nat) : Nat := match mw_cl[ci - 1]? with
  | some q => q.2.2
  | none => 0
/-- kinds of fields: 0 an int, 2 a long, 3 a static reference, g + 4 a reference into the group g -/
def mw_fz (ci j : Nat) : Nat := match mw_cl[ci - 1]? with
  | some q => match (q.2.1 j).2.2.1 with
    | "I" => 0
    | "Z" => 0
    | "J" => 2
    | "LLinkedCores$Word;" => 20
    | _ => 3
  | none => 1
def mw_fI (ci j : Nat) : Bool := match mw_cl[ci - 1]? with
  | some q => decide ((q.2.1 j).2.2.1 = "I")
  | none => false
def mw_fZ (ci j : Nat) : Bool := match mw_cl[ci - 1]? with
  | some q => decide ((q.2.1 j).2.2.1 = "Z")
  | none => false
def mw_nfin (ci j : Nat) : Bool := match mw_cl[ci - 1]? with
  | some q => !(q.2.1 j).2.2.2
  | none => false
/-- is the entry x of the class cn the field j of the class ci? is it the method mj? (by the lists of links) -/
def mw_isF (cn x ci j : Nat) : Bool := match mw_find x (mw_fl cn) with
  | some q => Nat.beq q.1 ci && Nat.beq q.2.1 j && Nat.ble (j + 1) (mw_nf ci) && Nat.ble 1 ci
  | none => false
def mw_isM (cn x mj : Nat) : Bool := match mw_find x (mw_ml cn) with
  | some q => Nat.beq q.1 mj
  | none => false
/-- the targets of a switch -/
def mw_swT (pc : Nat) (d lo hi : Int) (offs : Array Int) (a : Nat) (cs : List (Int32 × Nat)) : Bool := decide ((pc : Int) + d = a) && decide ((hi - lo + 1).toNat = cs.length) && decide (offs.toList.length = cs.length) && ((cs.zip offs.toList).zipIdx).all (fun q => decide ((q.1.1.1 : Int32).toInt = lo + q.2) && decide ((pc : Int) + q.1.2 = q.1.1.2))
def mw_swL (pc : Nat) (d : Int) (ps : Array (Int × Int)) (a : Nat) (cs : List (Int32 × Nat)) : Bool := decide ((pc : Int) + d = a) && (ps.toList.zip (ps.toList.drop 1)).all (fun (a, next) => decide (a.1 < next.1)) && decide (ps.toList.length = cs.length) && (cs.zip ps.toList).all (fun q => decide ((q.1.1 : Int32).toInt = q.2.1) && decide ((pc : Int) + q.2.2 = q.1.2))
/-- does the instruction i at pc (its length len) do what the entry says? -/
def mw_fit (mi pc : Nat) (i : Instr) (len : Nat) (P : mj_P) : Bool := match P with
  | (o, n, a, b, c, e, v) => match o with
    | 0 => (match i with
      | .iload_n k => Nat.beq k.val a && Nat.beq b 0 && Nat.beq len 1 && Nat.beq n (pc + 1)
      | .lload_n k => Nat.beq k.val a && Nat.beq b 1 && Nat.beq len 1 && Nat.beq n (pc + 1)
      | .aload_n k => Nat.beq k.val a && Nat.beq b 2 && Nat.beq len 1 && Nat.beq n (pc + 1)
      | .iload k => Nat.beq k a && Nat.beq b 0 && Nat.beq len 2 && Nat.beq n (pc + 2)
      | .lload k => Nat.beq k a && Nat.beq b 1 && Nat.beq len 2 && Nat.beq n (pc + 2)
      | .aload k => Nat.beq k a && Nat.beq b 2 && Nat.beq len 2 && Nat.beq n (pc + 2)
      | _ => false)
    | 1 => (match i with
      | .iconst x => decide (Int32.ofInt x = v) && Nat.beq len 1 && Nat.beq n (pc + 1)
      | .bipush x => decide ((Int8.ofInt x).toInt32 = v) && Nat.beq len 2 && Nat.beq n (pc + 2)
      | .sipush x => decide ((Int16.ofInt x).toInt32 = v) && Nat.beq len 3 && Nat.beq n (pc + 3)
      | .ldc x => decide (mw_kI (mw_mc mi) x = some v) && Nat.beq len 2 && Nat.beq n (pc + 2)
      | .ldc_w x => decide (mw_kI (mw_mc mi) x = some v) && Nat.beq len 3 && Nat.beq n (pc + 3)
      | _ => false)
    | 2 => (match i with
      | .lconst x => Nat.beq x.val c && Nat.beq len 1 && Nat.beq n (pc + 1)
      | .ldc2_w x => decide (mw_kL (mw_mc mi) x = some c) && Nat.beq len 3 && Nat.beq n (pc + 3)
      | _ => false)
    | 4 => (match i with
      | .istore_n k => Nat.beq k.val a && Nat.beq b 0 && Nat.beq len 1 && Nat.beq n (pc + 1) && Nat.ble (a + 1) (mw_l mi)
      | .astore_n k => Nat.beq k.val a && Nat.beq b 2 && Nat.beq len 1 && Nat.beq n (pc + 1) && Nat.ble (a + 1) (mw_l mi)
      | .istore k => Nat.beq k a && Nat.beq b 0 && Nat.beq len 2 && Nat.beq n (pc + 2) && Nat.ble (a + 1) (mw_l mi)
      | .astore k => Nat.beq k a && Nat.beq b 2 && Nat.beq len 2 && Nat.beq n (pc + 2) && Nat.ble (a + 1) (mw_l mi)
      | _ => false)
    | 5 => (match i with
      | .lstore_n k => Nat.beq k.val a && Nat.beq len 1 && Nat.beq n (pc + 1) && Nat.ble (a + 2) (mw_l mi)
      | .lstore k => Nat.beq k a && Nat.beq len 2 && Nat.beq n (pc + 2) && Nat.ble (a + 2) (mw_l mi)
      | _ => false)
    | 6 => (match i with
      | .iinc k x => Nat.beq k a && decide (Int32.ofInt x = v) && Nat.beq len 3 && Nat.beq n (pc + 3) && Nat.ble (a + 1) (mw_l mi)
      | _ => false)
    | 7 => (match i with
      | .goto x => decide ((pc : Int) + x = a) && Nat.beq len 3
      | _ => false)
    | 8 => (match i with
      | .ifCond cd x => Nat.beq (mw_cd cd) b && decide ((pc : Int) + x = a) && Nat.beq len 3 && Nat.beq n (pc + 3)
      | _ => false)
    | 9 => (match i with
      | .if_icmp cd x => Nat.beq (mw_cd cd) b && decide ((pc : Int) + x = a) && Nat.beq len 3 && Nat.beq n (pc + 3)
      | _ => false)
    | 10 => (match i with
      | .if_acmp .eq x => decide ((pc : Int) + x = a) && Nat.beq len 3 && Nat.beq n (pc + 3)
      | _ => false)
    | 11 => (match i with
      | .if_acmp .ne x => decide ((pc : Int) + x = a) && Nat.beq len 3 && Nat.beq n (pc + 3)
      | _ => false)
    | 12 => (match i with
      | .getfield x => Nat.beq len 3 && Nat.beq n (pc + 3) && mw_isF (mw_mc mi) x a b && (mw_fz a b == 0)
      | _ => false)
    | 13 => (match i with
      | .getfield x => Nat.beq len 3 && Nat.beq n (pc + 3) && mw_isF (mw_mc mi) x a b && (mw_fz a b == 2)
      | _ => false)
    | 14 => (match i with
      | .getfield x => Nat.beq len 3 && Nat.beq n (pc + 3) && mw_isF (mw_mc mi) x a b && (mw_fz a b == 3)
      | _ => false)
    | 15 => (match i with
      | .getfield x => Nat.beq len 3 && Nat.beq n (pc + 3) && mw_isF (mw_mc mi) x a b && (mw_fz a b == c + 4)
      | _ => false)
    | 16 => (match i with
      | .putfield x => Nat.beq len 3 && Nat.beq n (pc + 3) && mw_isF (mw_mc mi) x a b && mw_nfin a b && (mw_fz a b == 0) && mw_fI a b
      | _ => false)
    | 17 => (match i with
      | .putfield x => Nat.beq len 3 && Nat.beq n (pc + 3) && mw_isF (mw_mc mi) x a b && mw_nfin a b && (mw_fz a b == 0) && mw_fZ a b
      | _ => false)
    | 18 => (match i with
      | .putfield x => Nat.beq len 3 && Nat.beq n (pc + 3) && mw_isF (mw_mc mi) x a b && mw_nfin a b && (mw_fz a b == 2)
      | _ => false)
    | 19 => (match i with
      | .putfield x => Nat.beq len 3 && Nat.beq n (pc + 3) && mw_isF (mw_mc mi) x a b && mw_nfin a b && (mw_fz a b == c + 4)
      | _ => false)
    | 20 => (match i with
      | .iaload => Nat.beq b 1 && Nat.beq len 1 && Nat.beq n (pc + 1)
      | .baload => Nat.beq b 2 && Nat.beq len 1 && Nat.beq n (pc + 1)
      | .laload => Nat.beq b 4 && Nat.beq len 1 && Nat.beq n (pc + 1)
      | .aaload => Nat.beq b 5 && Nat.beq len 1 && Nat.beq n (pc + 1)
      | _ => false)
    | 21 => (match i with
      | .iastore => Nat.beq b 1 && Nat.beq len 1 && Nat.beq n (pc + 1)
      | .bastore => Nat.beq b 2 && Nat.beq len 1 && Nat.beq n (pc + 1)
      | .lastore => Nat.beq b 4 && Nat.beq len 1 && Nat.beq n (pc + 1)
      | .aastore => Nat.beq b 5 && Nat.beq len 1 && Nat.beq n (pc + 1)
      | _ => false)
    | 22 => (match i with
      | .iadd => Nat.beq b 0 && Nat.beq len 1 && Nat.beq n (pc + 1)
      | .isub => Nat.beq b 1 && Nat.beq len 1 && Nat.beq n (pc + 1)
      | .imul => Nat.beq b 2 && Nat.beq len 1 && Nat.beq n (pc + 1)
      | .iand => Nat.beq b 3 && Nat.beq len 1 && Nat.beq n (pc + 1)
      | .ior => Nat.beq b 4 && Nat.beq len 1 && Nat.beq n (pc + 1)
      | .ixor => Nat.beq b 5 && Nat.beq len 1 && Nat.beq n (pc + 1)
      | .ishl => Nat.beq b 6 && Nat.beq len 1 && Nat.beq n (pc + 1)
      | .ishr => Nat.beq b 7 && Nat.beq len 1 && Nat.beq n (pc + 1)
      | .iushr => Nat.beq b 8 && Nat.beq len 1 && Nat.beq n (pc + 1)
      | _ => false)
    | 23 => (match i with
      | .idiv => Nat.beq len 1 && Nat.beq n (pc + 1)
      | _ => false)
    | 24 => (match i with
      | .irem => Nat.beq len 1 && Nat.beq n (pc + 1)
      | _ => false)
    | 25 => (match i with
      | .ineg => Nat.beq len 1 && Nat.beq n (pc + 1)
      | _ => false)
    | 26 => (match i with
      | .ladd => Nat.beq b 0 && Nat.beq len 1 && Nat.beq n (pc + 1)
      | .lsub => Nat.beq b 1 && Nat.beq len 1 && Nat.beq n (pc + 1)
      | .lmul => Nat.beq b 2 && Nat.beq len 1 && Nat.beq n (pc + 1)
      | .lor => Nat.beq b 3 && Nat.beq len 1 && Nat.beq n (pc + 1)
      | _ => false)
    | 27 => (match i with
      | .lshl => Nat.beq len 1 && Nat.beq n (pc + 1)
      | _ => false)
    | 28 => (match i with
      | .lcmp => Nat.beq len 1 && Nat.beq n (pc + 1)
      | _ => false)
    | 29 => (match i with
      | .i2l => Nat.beq len 1 && Nat.beq n (pc + 1)
      | _ => false)
    | 30 => (match i with
      | .l2i => Nat.beq len 1 && Nat.beq n (pc + 1)
      | _ => false)
    | 31 => (match i with
      | .i2b => Nat.beq len 1 && Nat.beq n (pc + 1)
      | _ => false)
    | 32 => (match i with
      | .dup => Nat.beq len 1 && Nat.beq n (pc + 1)
      | _ => false)
    | 33 => (match i with
      | .dup2 => Nat.beq len 1 && Nat.beq n (pc + 1)
      | _ => false)
    | 34 => (match i with
      | .pop => Nat.beq len 1 && Nat.beq n (pc + 1)
      | _ => false)
    | 35 => (match i with
      | .arraylength => Nat.beq len 1 && Nat.beq n (pc + 1)
      | _ => false)
    | 36 => (match i with
      | .tableswitch d lo hi offs => mw_swT pc d lo hi offs a (mt_sw c)
      | .lookupswitch d ps => mw_swL pc d ps a (mt_sw c)
      | _ => false)
    | 37 => (match i with
      | .invokestatic x => Nat.beq len 3 && Nat.beq n (pc + 3) && mw_isM (mw_mc mi) x a && mw_sta a && Nat.beq b (mw_na a) && Nat.beq c (mw_rk a) && Nat.ble v.toNatClampNeg (mw_l a) && Nat.ble (a + 1) 369
      | _ => false)
    | 38 => (match i with
      | .invokevirtual x => Nat.beq len 3 && Nat.beq n (pc + 3) && mw_isM (mw_mc mi) x a && !(mw_sta a) && Nat.beq b (mw_na a + 1) && Nat.beq c (mw_rk a) && Nat.beq e (mw_mc a) && Nat.ble v.toNatClampNeg (mw_l a) && Nat.ble (a + 1) 369
      | _ => false)
    | 39 => (match i with
      | .return_ => Nat.beq (mw_rk mi) 0 && Nat.beq len 1
      | _ => false)
    | 40 => (match i with
      | .ireturn => Nat.beq (mw_rk mi) 1 && Nat.beq len 1
      | _ => false)
    | 41 => (match i with
      | .ireturn => Nat.beq (mw_rk mi) 2 && Nat.beq len 1
      | _ => false)
    | 42 => (match i with
      | .lreturn => Nat.beq (mw_rk mi) 3 && Nat.beq len 1
      | _ => false)
    | 43 => (match i with
      | .areturn => Nat.ble 4 (mw_rk mi) && Nat.beq len 1
      | _ => false)
    | _ => false
