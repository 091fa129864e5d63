/-! the small machine: ints and longs are Int, references Int (0 null, else the address + 1), one heap of all fields and elements; J.WP: from here the method comes to its end, and Q -/
set_option maxRecDepth 100000
abbrev J.V : Type := Int ⊕ Int ⊕ Int ⊕ Unit
abbrev J.I (x : Int) : J.V := Sum.inl x
abbrev J.L (x : Int) : J.V := Sum.inr (Sum.inl x)
abbrev J.R (x : Int) : J.V := Sum.inr (Sum.inr (Sum.inl x))
abbrev J.U : J.V := Sum.inr (Sum.inr (Sum.inr ()))
abbrev J.H : Type := (Int → Nat) × (Int → Int) × (Int → Int → Int) × Int × Int
abbrev J.O : Type := Option J.V ⊕ Int
def J.cl (h : J.H) (a : Int) : Nat := h.1 a
def J.ln (h : J.H) (a : Int) : Int := h.2.1 a
def J.gv (h : J.H) (a i : Int) : Int := h.2.2.1 a i
def J.nx (h : J.H) : Int := h.2.2.2.1
def J.us (h : J.H) : Int := h.2.2.2.2
def J.sv (h : J.H) (a i x : Int) : J.H := (h.1, h.2.1, fun b j => if b = a ∧ j = i then x else h.2.2.1 b j, h.2.2.2)
def J.nw (h : J.H) (c : Nat) (n w : Int) : J.H := (fun b => if b = J.nx h then c else h.1 b, fun b => if b = J.nx h then n else h.2.1 b, fun b j => if b = J.nx h then 0 else h.2.2.1 b j, J.nx h + 1, J.us h + w)
def J.cpy (h : J.H) (a i b j n : Int) : J.H := (h.1, h.2.1, fun x y => if x = b ∧ j ≤ y ∧ y < j + n then h.2.2.1 a (i + (y - j)) else h.2.2.1 x y, h.2.2.2)
/-- a new exception -/
def J.ex (h : J.H) (a : Int) : J.H := J.sv (J.sv (J.sv h a 164 a) a 165 (J.gv h (-1) 3)) a 166 (J.gv h (-1) 4)
/-- the constants of the enum: which it is, and what its fields hold -/
def J.isK (h : J.H) (a : Int) : Bool := a == J.gv h (-1) 11 || a == J.gv h (-1) 12 || a == J.gv h (-1) 13 || a == J.gv h (-1) 14 || a == J.gv h (-1) 15
def J.kx (h : J.H) (a : Int) : Int := if a = J.gv h (-1) 11 then 11 else if a = J.gv h (-1) 12 then 12 else if a = J.gv h (-1) 13 then 13 else if a = J.gv h (-1) 14 then 14 else 15
def J.kf (h : J.H) (a : Int) (r : Nat) : Int := J.gv h (-1) (2000 + 10 * J.kx h a + ((r : Int) - 554))
def J.UM : Int := 6200000
def J.w32 (x : Int) : Int := (x + 2147483648) % 4294967296 - 2147483648
def J.w64 (x : Int) : Int := (x + 9223372036854775808) % 18446744073709551616 - 9223372036854775808
def J.and32 (a b : Int) : Int := (Int32.ofInt a &&& Int32.ofInt b).toInt
def J.or32 (a b : Int) : Int := (Int32.ofInt a ||| Int32.ofInt b).toInt
def J.xor32 (a b : Int) : Int := (Int32.ofInt a ^^^ Int32.ofInt b).toInt
def J.and64 (a b : Int) : Int := (Int64.ofInt a &&& Int64.ofInt b).toInt
def J.or64 (a b : Int) : Int := (Int64.ofInt a ||| Int64.ofInt b).toInt
def J.xor64 (a b : Int) : Int := (Int64.ofInt a ^^^ Int64.ofInt b).toInt
def J.shl32 (a b : Int) : Int := J.w32 (a * 2 ^ (b % 32).toNat)
def J.shr32 (a b : Int) : Int := a / 2 ^ (b % 32).toNat
def J.ush32 (a b : Int) : Int := J.w32 ((a % 4294967296) / 2 ^ (b % 32).toNat)
def J.shl64 (a b : Int) : Int := J.w64 (a * 2 ^ (b % 64).toNat)
def J.shr64 (a b : Int) : Int := a / 2 ^ (b % 64).toNat
def J.ush64 (a b : Int) : Int := J.w64 ((a % 18446744073709551616) / 2 ^ (b % 64).toNat)
def J.i8 (x : Int) : Int := (x + 128) % 256 - 128
def J.sb (c d : Nat) : Bool := J.ik c && (c == d || J.sp c == d || J.sp (J.sp c) == d || J.sp (J.sp (J.sp c)) == d)
/-- an array -/
def J.ia (c : Nat) : Bool := decide (200 < c) && decide (c < 320) && (J.ik c || (c == 301 || c == 304))
abbrev J.zo (y : Int) : Prop := y = 0 ∨ y = 1
abbrev J.br (y : Int) : Prop := -128 ≤ y ∧ y < 128
abbrev J.cr (y : Int) : Prop := 0 ≤ y ∧ y < 65536
abbrev J.rg (j n : Int) : Prop := 0 ≤ j ∧ j < n
abbrev J.nz (y : Int) : Prop := ¬ y = 0
abbrev J.no (y : Int) : Prop := y = 0
/-- what a place of a kind can hold (0 int, 1 long, 2 reference, 3 boolean, 4 byte) -/
def J.fit (t : Int) (x : Int) : Bool := if t = 3 then x == 0 || x == 1 else if t = 4 then decide (-128 ≤ x) && decide (x < 128) else if t = 5 then decide (0 ≤ x) && decide (x < 65536) else true
def J.ty (t : Int) (x : Int) : J.V := if t = 1 then J.L x else if t = 2 then J.R x else J.I x
/-- an array class of a kind -/
def J.isA (c : Nat) (t : Nat) : Bool := match t with
  | 0 => c == 201 || c == 301
  | 1 => c == 202
  | 3 => c == 203 || c == 204 || c == 304
  | _ => (decide (211 ≤ c) && decide (c ≤ 219)) || c == 311 || c == 312
abbrev J.Rs : Type := (Nat × List J.V × List J.V × J.H) ⊕ (Nat × List J.V × List J.V) ⊕ (J.O × J.H)
def J.go (n : Nat) (ls st : List J.V) (h : J.H) : Option J.Rs := some (Sum.inl (n, ls, st, h))
def J.fin (o : J.O) (h : J.H) : Option J.Rs := some (Sum.inr (Sum.inr (o, h)))
def J.iv (v : J.V) : J.V := match v with
  | Sum.inr (Sum.inl _) => J.U
  | v => v
/-- a value comes into the locals: a long whose second half it takes is gone -/
def J.st1 : List J.V → Nat → J.V → List J.V
  | [], _, _ => []
  | _ :: l, 0, v => v :: l
  | a :: [], 1, _ => [J.iv a]
  | a :: _ :: l, 1, v => J.iv a :: v :: l
  | a :: l, n + 2, v => a :: J.st1 l (n + 1) v
def J.st2 (ls : List J.V) (i : Nat) (v : J.V) : List J.V := (J.st1 ls i v).set (i + 1) J.U
def J.lay : List J.V → List J.V
  | [] => []
  | Sum.inr (Sum.inl x) :: l => J.L x :: J.U :: J.lay l
  | v :: l => v :: J.lay l
def J.pad (n : Nat) (l : List J.V) : List J.V := l ++ List.replicate (n - l.length) J.U
/-- the locals a call begins with: the arguments as they lie on the stack (the last on top) -/
def J.ent (n : Nat) (m : Int) (st : List J.V) : List J.V := J.pad m.toNat (J.lay (st.take n).reverse)
def J.lk (o x : Nat) (i : Instr) (n : Nat) : Option (Instr × Nat × Nat × Nat × Int) := match (J.cp.getD o []).lookup x with
  | some (r, s, t) => some (i, n, r, s, t)
  | none => none
def J.atc (t : ArrayType) : Nat := match t with
  | .int => 201
  | .long => 202
  | .boolean => 203
  | .byte => 204
  | _ => 0
def J.if1 (p : Nat → Nat → Int → Bool) (q : Option (Instr × Nat × Nat × Nat × Int)) : Option (Instr × Nat × Nat × Nat × Int) := match q with
  | some (i, n, r, s, t) => if p r s t = true then some (i, n, r, s, t) else none
  | none => none
def J.rsv (o fl pc : Nat) (i : Instr) (n : Nat) : Option (Instr × Nat × Nat × Nat × Int) := match i with
  | .aload_n k => some (.aload k.val, n, 0, 0, 0)
  | .iload_n k => some (.iload k.val, n, 0, 0, 0)
  | .lload_n k => some (.lload k.val, n, 0, 0, 0)
  | .astore_n k => some (.astore k.val, n, 0, 0, 0)
  | .istore_n k => some (.istore k.val, n, 0, 0, 0)
  | .lstore_n k => some (.lstore k.val, n, 0, 0, 0)
  | .bipush x => if -128 ≤ x ∧ x < 128 then some (.iconst x, n, 0, 0, 0) else none
  | .sipush x => if -32768 ≤ x ∧ x < 32768 then some (.iconst x, n, 0, 0, 0) else none
  | .iconst x => if -128 ≤ x ∧ x < 128 then some (.iconst x, n, pc, 0, 0) else none
  | .getfield x => match (J.cp.getD o []).lookup (16 * x) with
    | some (r, s, t) => some (i, n, r, s, if t < 10 then t else t - 10)
    | none => none
  | .putfield x => match (J.cp.getD o []).lookup (16 * x) with
    | some (r, s, t) => if 554 ≤ r then none else if t < 10 then some (i, n, r, s, t) else if 100 ≤ fl ∧ s = o then some (i, n, r, s, t - 10) else none
    | none => none
  | .getstatic x => J.lk o (16 * x + 1) i n
  | .invokestatic x => J.lk o (16 * x + 2) i n
  | .invokespecial x => match J.lk o (16 * x + 8) i n with
    | some q => some q
    | none => J.lk o (16 * x + 9) i n
  | .invokevirtual x => J.lk o (16 * x + 3) i n
  | .new x => J.if1 (fun r s t => 7 ≤ s) (J.lk o (16 * x + 4) i n)
  | .anewarray x => J.if1 (fun r s t => 211 ≤ t) (J.lk o (16 * x + 4) i n)
  | .checkcast x => J.if1 (fun r s t => r ≠ 0) (J.lk o (16 * x + 4) i n)
  | .instanceof x => J.if1 (fun r s t => r ≠ 0) (J.lk o (16 * x + 4) i n)
  | .newarray y => if J.atc y = 0 then none else some (i, n, pc, 0, 0)
  | .tableswitch d lo hi offs => if 0 ≤ (pc : Int) + d ∧ lo ≤ hi ∧ (offs.size : Int) = hi - lo + 1 ∧ (offs.toList.all fun f => decide (0 ≤ (pc : Int) + f)) = true then some (i, n, pc, 0, 0) else none
  | .lookupswitch d ps => if 0 ≤ (pc : Int) + d ∧ ((ps.toList.all fun f => decide (0 ≤ (pc : Int) + f.2)) && ((ps.toList.zip (ps.toList.drop 1)).all fun q => decide (q.1.1 < q.2.1))) = true then some (i, n, pc, 0, 0) else none
  | .ldc x => match J.lk o (16 * x + 5) i n with
    | some q => some q
    | none => J.lk o (16 * x + 6) i n
  | .ldc_w x => match J.lk o (16 * x + 5) (.ldc x) n with
    | some q => if q.2.2.1 = 900 then none else some q
    | none => J.lk o (16 * x + 6) (.ldc x) n
  | .ldc2_w x => J.lk o (16 * x + 7) i n
  | .goto f => if 0 ≤ (pc : Int) + f then some (i, n, ((pc : Int) + f).toNat, 0, 0) else none
  | .if_acmp _ f => if 0 ≤ (pc : Int) + f then some (i, n, ((pc : Int) + f).toNat, 0, 0) else none
  | .if_icmp _ f => if 0 ≤ (pc : Int) + f then some (i, n, ((pc : Int) + f).toNat, 0, 0) else none
  | .ifCond _ f => if 0 ≤ (pc : Int) + f then some (i, n, ((pc : Int) + f).toNat, 0, 0) else none
  | .ifnull f => if 0 ≤ (pc : Int) + f then some (i, n, ((pc : Int) + f).toNat, 0, 0) else none
  | .ifnonnull f => if 0 ≤ (pc : Int) + f then some (i, n, ((pc : Int) + f).toNat, 0, 0) else none
  | .ireturn => if fl % 100 = 0 ∨ fl % 100 = 3 ∨ fl % 100 = 4 ∨ fl % 100 = 5 then some (i, n, 0, 0, ((fl % 100 : Nat) : Int)) else none
  | .lreturn => if fl % 100 = 1 then some (i, n, pc, 0, 0) else none
  | .areturn => if fl % 100 = 2 then some (i, n, pc, 0, 0) else none
  | .return_ => if fl % 100 = 7 then some (i, n, pc, 0, 0) else none
  | _ => some (i, n, pc, 0, 0)
/-- how many bytes an instruction has -/
def J.lenOk (i : Instr) (len : Nat) : Bool := match i with
  | .tableswitch _ _ _ _ => true
  | .lookupswitch _ _ => true
  | .bipush _ | .iload _ | .lload _ | .aload _ | .istore _ | .lstore _ | .astore _ | .ldc _ | .newarray _ => len == 2
  | .sipush _ | .iinc _ _ | .ldc_w _ | .ldc2_w _ | .getfield _ | .putfield _ | .getstatic _ | .invokestatic _ | .invokespecial _ | .invokevirtual _ | .new _ | .anewarray _ | .checkcast _ | .instanceof _ | .goto _ | .if_acmp _ _ | .if_icmp _ _ | .ifCond _ _ | .ifnull _ | .ifnonnull _ => len == 3
  | _ => len == 1
/-- the instruction of method k at pc: as it is, where the next one lies, three numbers that its operand comes to -/
def J.cd (k pc : Nat) : Option (Instr × Nat × Nat × Nat × Int) := match (J.mt.getD (k / 100) [])[k % 100]? with
  | none => none
  | some (b, o, fl) => match decode b pc with
    | .ok (i, len) => if J.lenOk i len = true then J.rsv o fl pc i (pc + len) else none
    | .error _ => none
def J.sel (c v : Nat) : Option (Nat × Nat) := ((J.selT.getD (v / 50) []).getD (v % 50) []).lookup c
def J.icmp (c : Jvm.ClassFile.Cond) (a b : Int) : Bool := match c with
  | .eq => decide (a = b)
  | .ne => !decide (a = b)
  | .lt => decide (a < b)
  | .ge => !decide (a < b)
  | .gt => !decide (a ≤ b)
  | .le => decide (a ≤ b)
def J.acmp (c : Jvm.ClassFile.ACond) (a b : Int) : Bool := match c with
  | .eq => decide (a = b)
  | .ne => !decide (a = b)
/-- where a switch leads -/
def J.tsw (pc : Nat) (d lo hi : Int) (offs : Array Int) (x : Int) : Nat := ((pc : Int) + (if x < lo ∨ hi < x then d else offs.getD (x - lo).toNat 0)).toNat
def J.lsw (pc : Nat) (d : Int) (ps : Array (Int × Int)) (x : Int) : Nat := ((pc : Int) + (ps.toList.lookup x).getD d).toNat
/-- a new array of n places, of a class -/
def J.na (n : Nat) (ls st : List J.V) (h : J.H) (c : Nat) (z : Int) : Option J.Rs := if 0 ≤ z ∧ J.us h + 7 + z ≤ J.UM then J.go n ls (J.R (J.nx h) :: st) (J.nw h c z (7 + z)) else none
/-- what may be put into an array of references: the class number of its places (0: anything) -/
def J.cpt (c : Nat) : Nat := match c with
  | 211 => 24 | 212 => 91 | 213 => 23 | 214 => 0 | 215 => 105 | 216 => 63 | 217 => 74 | 218 => 61 | 219 => 95 | _ => 999
/-- these places of an array of references hold null or a thing -/
def J.vld (h : J.H) (a q m : Int) : Bool := (List.range m.toNat).all fun i => J.gv h a (q + i) == 0 || J.okK (J.cl h (J.gv h a (q + i)))
/-- one instruction: where it leads; a call; an end -/
def J.sx (i : Instr) (n r s : Nat) (t : Int) (ls st : List J.V) (h : J.H) : Option J.Rs := match i with
  | .aconst_null => J.go n ls (J.R 0 :: st) h
  | .iconst x => J.go n ls (J.I x :: st) h
  | .lconst x => J.go n ls (J.L (x.val : Int) :: st) h
  | .ldc _ => if s = 1 then J.go n ls (J.R (J.gv h (-1) r) :: st) h else J.go n ls (J.I t :: st) h
  | .ldc2_w _ => J.go n ls (J.L t :: st) h
  | .iload j => match ls[j]? with
    | some (Sum.inl x) => J.go n ls (J.I x :: st) h
    | _ => none
  | .lload j => match ls[j]? with
    | some (Sum.inr (Sum.inl x)) => J.go n ls (J.L x :: st) h
    | _ => none
  | .aload j => match ls[j]? with
    | some (Sum.inr (Sum.inr (Sum.inl x))) => J.go n ls (J.R x :: st) h
    | _ => none
  | .istore j => match st with
    | Sum.inl x :: st => if j < ls.length then J.go n (J.st1 ls j (J.I x)) st h else none
    | _ => none
  | .lstore j => match st with
    | Sum.inr (Sum.inl x) :: st => if j + 1 < ls.length then J.go n (J.st2 ls j (J.L x)) st h else none
    | _ => none
  | .astore j => match st with
    | Sum.inr (Sum.inr (Sum.inl x)) :: st => if j < ls.length then J.go n (J.st1 ls j (J.R x)) st h else none
    | _ => none
  | .iinc j c => match ls[j]? with
    | some (Sum.inl x) => J.go n (ls.set j (J.I (J.w32 (x + c)))) st h
    | _ => none
  | .dup => match st with
    | Sum.inl x :: st => J.go n ls (J.I x :: J.I x :: st) h
    | Sum.inr (Sum.inr (Sum.inl x)) :: st => J.go n ls (J.R x :: J.R x :: st) h
    | _ => none
  | .dup_x1 => match st with
    | Sum.inl x :: Sum.inr (Sum.inr (Sum.inl y)) :: st => J.go n ls (J.I x :: J.R y :: J.I x :: st) h
    | Sum.inl x :: Sum.inl y :: st => J.go n ls (J.I x :: J.I y :: J.I x :: st) h
    | Sum.inr (Sum.inr (Sum.inl x)) :: Sum.inr (Sum.inr (Sum.inl y)) :: st => J.go n ls (J.R x :: J.R y :: J.R x :: st) h
    | _ => none
  | .dup2 => match st with
    | Sum.inr (Sum.inl x) :: st => J.go n ls (J.L x :: J.L x :: st) h
    | Sum.inl x :: Sum.inr (Sum.inr (Sum.inl y)) :: st => J.go n ls (J.I x :: J.R y :: J.I x :: J.R y :: st) h
    | _ => none
  | .pop => match st with
    | Sum.inl _ :: st => J.go n ls st h
    | Sum.inr (Sum.inr (Sum.inl _)) :: st => J.go n ls st h
    | _ => none
  | .pop2 => match st with
    | Sum.inr (Sum.inl _) :: st => J.go n ls st h
    | _ => none
  | .iadd => match st with
    | Sum.inl b :: Sum.inl a :: st => J.go n ls (J.I (J.w32 (a + b)) :: st) h
    | _ => none
  | .isub => match st with
    | Sum.inl b :: Sum.inl a :: st => J.go n ls (J.I (J.w32 (a - b)) :: st) h
    | _ => none
  | .imul => match st with
    | Sum.inl b :: Sum.inl a :: st => J.go n ls (J.I (J.w32 (a * b)) :: st) h
    | _ => none
  | .idiv => match st with
    | Sum.inl b :: Sum.inl a :: st => if b = 0 then none else J.go n ls (J.I (J.w32 (a.tdiv b)) :: st) h
    | _ => none
  | .irem => match st with
    | Sum.inl b :: Sum.inl a :: st => if b = 0 then none else J.go n ls (J.I (a.tmod b) :: st) h
    | _ => none
  | .ineg => match st with
    | Sum.inl a :: st => J.go n ls (J.I (J.w32 (-a)) :: st) h
    | _ => none
  | .iand => match st with
    | Sum.inl b :: Sum.inl a :: st => J.go n ls (J.I (J.and32 a b) :: st) h
    | _ => none
  | .ior => match st with
    | Sum.inl b :: Sum.inl a :: st => J.go n ls (J.I (J.or32 a b) :: st) h
    | _ => none
  | .ixor => match st with
    | Sum.inl b :: Sum.inl a :: st => J.go n ls (J.I (J.xor32 a b) :: st) h
    | _ => none
  | .ishl => match st with
    | Sum.inl b :: Sum.inl a :: st => J.go n ls (J.I (J.shl32 a b) :: st) h
    | _ => none
  | .ishr => match st with
    | Sum.inl b :: Sum.inl a :: st => J.go n ls (J.I (J.shr32 a b) :: st) h
    | _ => none
  | .iushr => match st with
    | Sum.inl b :: Sum.inl a :: st => J.go n ls (J.I (J.ush32 a b) :: st) h
    | _ => none
  | .i2l => match st with
    | Sum.inl a :: st => J.go n ls (J.L a :: st) h
    | _ => none
  | .l2i => match st with
    | Sum.inr (Sum.inl a) :: st => J.go n ls (J.I (J.w32 a) :: st) h
    | _ => none
  | .i2b => match st with
    | Sum.inl a :: st => J.go n ls (J.I (J.i8 a) :: st) h
    | _ => none
  | .i2c => match st with
    | Sum.inl a :: st => J.go n ls (J.I (a % 65536) :: st) h
    | _ => none
  | .ladd => match st with
    | Sum.inr (Sum.inl b) :: Sum.inr (Sum.inl a) :: st => J.go n ls (J.L (J.w64 (a + b)) :: st) h
    | _ => none
  | .lsub => match st with
    | Sum.inr (Sum.inl b) :: Sum.inr (Sum.inl a) :: st => J.go n ls (J.L (J.w64 (a - b)) :: st) h
    | _ => none
  | .lmul => match st with
    | Sum.inr (Sum.inl b) :: Sum.inr (Sum.inl a) :: st => J.go n ls (J.L (J.w64 (a * b)) :: st) h
    | _ => none
  | .ldiv => match st with
    | Sum.inr (Sum.inl b) :: Sum.inr (Sum.inl a) :: st => if b = 0 then none else J.go n ls (J.L (J.w64 (a.tdiv b)) :: st) h
    | _ => none
  | .lrem => match st with
    | Sum.inr (Sum.inl b) :: Sum.inr (Sum.inl a) :: st => if b = 0 then none else J.go n ls (J.L (a.tmod b) :: st) h
    | _ => none
  | .lneg => match st with
    | Sum.inr (Sum.inl a) :: st => J.go n ls (J.L (J.w64 (-a)) :: st) h
    | _ => none
  | .land => match st with
    | Sum.inr (Sum.inl b) :: Sum.inr (Sum.inl a) :: st => J.go n ls (J.L (J.and64 a b) :: st) h
    | _ => none
  | .lor => match st with
    | Sum.inr (Sum.inl b) :: Sum.inr (Sum.inl a) :: st => J.go n ls (J.L (J.or64 a b) :: st) h
    | _ => none
  | .lxor => match st with
    | Sum.inr (Sum.inl b) :: Sum.inr (Sum.inl a) :: st => J.go n ls (J.L (J.xor64 a b) :: st) h
    | _ => none
  | .lshl => match st with
    | Sum.inl b :: Sum.inr (Sum.inl a) :: st => J.go n ls (J.L (J.shl64 a b) :: st) h
    | _ => none
  | .lshr => match st with
    | Sum.inl b :: Sum.inr (Sum.inl a) :: st => J.go n ls (J.L (J.shr64 a b) :: st) h
    | _ => none
  | .lushr => match st with
    | Sum.inl b :: Sum.inr (Sum.inl a) :: st => J.go n ls (J.L (J.ush64 a b) :: st) h
    | _ => none
  | .lcmp => match st with
    | Sum.inr (Sum.inl b) :: Sum.inr (Sum.inl a) :: st => J.go n ls (J.I (if a < b then -1 else if a = b then 0 else 1) :: st) h
    | _ => none
  | .goto _ => J.go r ls st h
  | .if_icmp c _ => match st with
    | Sum.inl b :: Sum.inl a :: st => J.go (if J.icmp c a b = true then r else n) ls st h
    | _ => none
  | .ifCond c _ => match st with
    | Sum.inl a :: st => J.go (if J.icmp c a 0 = true then r else n) ls st h
    | _ => none
  | .if_acmp c _ => match st with
    | Sum.inr (Sum.inr (Sum.inl b)) :: Sum.inr (Sum.inr (Sum.inl a)) :: st => J.go (if J.acmp c a b = true then r else n) ls st h
    | _ => none
  | .ifnull _ => match st with
    | Sum.inr (Sum.inr (Sum.inl a)) :: st => J.go (if a = 0 then r else n) ls st h
    | _ => none
  | .ifnonnull _ => match st with
    | Sum.inr (Sum.inr (Sum.inl a)) :: st => J.go (if a = 0 then n else r) ls st h
    | _ => none
  | .tableswitch d lo hi offs => match st with
    | Sum.inl x :: st => J.go (J.tsw r d lo hi offs x) ls st h
    | _ => none
  | .lookupswitch d ps => match st with
    | Sum.inl x :: st => J.go (J.lsw r d ps x) ls st h
    | _ => none
  | .getfield _ => match st with
    | Sum.inr (Sum.inr (Sum.inl a)) :: st => if 554 ≤ r then (if J.isK h a = true then J.go n ls (J.ty t (J.kf h a r) :: st) h else none) else if J.sb (J.cl h a) s = true then J.go n ls (J.ty t (J.gv h a r) :: st) h else none
    | _ => none
  | .putfield _ => match st with
    | Sum.inl x :: Sum.inr (Sum.inr (Sum.inl a)) :: st => if J.sb (J.cl h a) s = true ∧ J.cl h a < 300 ∧ t ≠ 1 ∧ t ≠ 2 ∧ J.fit t x = true then J.go n ls st (J.sv h a r x) else none
    | Sum.inr (Sum.inl x) :: Sum.inr (Sum.inr (Sum.inl a)) :: st => if J.sb (J.cl h a) s = true ∧ J.cl h a < 300 ∧ t = 1 then J.go n ls st (J.sv h a r x) else none
    | Sum.inr (Sum.inr (Sum.inl x)) :: Sum.inr (Sum.inr (Sum.inl a)) :: st => if J.sb (J.cl h a) s = true ∧ J.cl h a < 300 ∧ t = 2 then J.go n ls st (J.sv h a r x) else none
    | _ => none
  | .getstatic _ => J.go n ls (J.ty t (J.gv h (-1) r) :: st) h
  | .iaload => match st with
    | Sum.inl j :: Sum.inr (Sum.inr (Sum.inl a)) :: st => if J.isA (J.cl h a) 0 = true ∧ 0 ≤ j ∧ j < J.ln h a then J.go n ls (J.I (J.gv h a j) :: st) h else none
    | _ => none
  | .laload => match st with
    | Sum.inl j :: Sum.inr (Sum.inr (Sum.inl a)) :: st => if J.isA (J.cl h a) 1 = true ∧ 0 ≤ j ∧ j < J.ln h a then J.go n ls (J.L (J.gv h a j) :: st) h else none
    | _ => none
  | .baload => match st with
    | Sum.inl j :: Sum.inr (Sum.inr (Sum.inl a)) :: st => if J.isA (J.cl h a) 3 = true ∧ 0 ≤ j ∧ j < J.ln h a then J.go n ls (J.I (J.gv h a j) :: st) h else none
    | _ => none
  | .aaload => match st with
    | Sum.inl j :: Sum.inr (Sum.inr (Sum.inl a)) :: st => if J.isA (J.cl h a) 2 = true ∧ 0 ≤ j ∧ j < J.ln h a then J.go n ls (J.R (J.gv h a j) :: st) h else none
    | _ => none
  | .iastore => match st with
    | Sum.inl x :: Sum.inl j :: Sum.inr (Sum.inr (Sum.inl a)) :: st => if J.cl h a = 201 ∧ 0 ≤ j ∧ j < J.ln h a then J.go n ls st (J.sv h a j x) else none
    | _ => none
  | .lastore => match st with
    | Sum.inr (Sum.inl x) :: Sum.inl j :: Sum.inr (Sum.inr (Sum.inl a)) :: st => if J.cl h a = 202 ∧ 0 ≤ j ∧ j < J.ln h a then J.go n ls st (J.sv h a j x) else none
    | _ => none
  | .bastore => match st with
    | Sum.inl x :: Sum.inl j :: Sum.inr (Sum.inr (Sum.inl a)) :: st => if ((J.cl h a = 203 ∧ (x = 0 ∨ x = 1)) ∨ (J.cl h a = 204 ∧ -128 ≤ x ∧ x < 128)) ∧ 0 ≤ j ∧ j < J.ln h a then J.go n ls st (J.sv h a j x) else none
    | _ => none
  | .aastore => match st with
    | Sum.inr (Sum.inr (Sum.inl x)) :: Sum.inl j :: Sum.inr (Sum.inr (Sum.inl a)) :: st => if J.cl h a < 300 ∧ J.isA (J.cl h a) 2 = true ∧ 0 ≤ j ∧ j < J.ln h a ∧ (x = 0 ∨ (J.cpt (J.cl h a) = 0 ∧ J.okK (J.cl h x) = true) ∨ J.sb (J.cl h x) (J.cpt (J.cl h a)) = true) then J.go n ls st (J.sv h a j x) else none
    | _ => none
  | .arraylength => match st with
    | Sum.inr (Sum.inr (Sum.inl a)) :: st => if J.ia (J.cl h a) = true then J.go n ls (J.I (J.ln h a) :: st) h else none
    | _ => none
  | .new _ => if J.us h + s ≤ J.UM then J.go n ls (J.R (J.nx h) :: st) (J.nw h r 0 s) else none
  | .newarray y => match st with
    | Sum.inl z :: st => J.na n ls st h (J.atc y) z
    | _ => none
  | .anewarray _ => match st with
    | Sum.inl z :: st => J.na n ls st h t.toNat z
    | _ => none
  | .checkcast _ => match st with
    | Sum.inr (Sum.inr (Sum.inl a)) :: st => if a = 0 ∨ J.sb (J.cl h a) r = true then J.go n ls (J.R a :: st) h else none
    | _ => none
  | .instanceof _ => match st with
    | Sum.inr (Sum.inr (Sum.inl a)) :: st => if a = 0 ∨ J.sb (J.cl h a) r = true ∨ J.nc (J.cl h a) r = true then J.go n ls (J.I (if a ≠ 0 ∧ J.sb (J.cl h a) r = true then 1 else 0) :: st) h else none
    | _ => none
  | .invokestatic _ => if r < 2000 then (if s ≤ st.length ∧ (st.drop s).length ≤ 7 ∧ (J.ent s t st).length = t.toNat then some (Sum.inr (Sum.inl (r, J.ent s t st, st.drop s))) else none) else if r = 2000 then (match st with
      | Sum.inl m :: Sum.inl j :: Sum.inr (Sum.inr (Sum.inl b)) :: Sum.inl q :: Sum.inr (Sum.inr (Sum.inl a)) :: st => if st.length ≤ 7 ∧ 0 ≤ m ∧ 0 ≤ q ∧ 0 ≤ j ∧ q + m ≤ J.ln h a ∧ j + m ≤ J.ln h b ∧ J.cl h b < 300 ∧ ((J.isA (J.cl h a) 3 = true ∧ J.cl h b = 204 ∧ J.cl h a ≠ 203) ∨ (J.isA (J.cl h a) 2 = true ∧ J.cl h b = 214 ∧ J.vld h a q m = true)) then J.go n ls st (J.cpy h a q b j m) else none
      | _ => none) else none
  | .invokespecial _ => if r < 2000 then (match (st.drop (s - 1)) with
      | Sum.inr (Sum.inr (Sum.inl a)) :: _ => if 0 < s ∧ s ≤ st.length ∧ J.ik (J.cl h a) = true ∧ (st.drop s).length ≤ 7 ∧ (J.ent s t st).length = t.toNat then some (Sum.inr (Sum.inl (r, J.ent s t st, st.drop s))) else none
      | _ => none) else if r = 2004 then (match st with
      | Sum.inr (Sum.inr (Sum.inl a)) :: st => if st.length ≤ 7 ∧ J.cl h a = 21 ∧ J.gv h a 168 = 0 then J.go n ls st (J.ex h a) else none
      | _ => none) else if r = 2005 then (match st with
      | Sum.inr (Sum.inr (Sum.inl a)) :: st => if st.length ≤ 7 ∧ J.ik (J.cl h a) = true then J.go n ls st h else none
      | _ => none) else none
  | .invokevirtual _ => if r = 9001 then (match st with
      | Sum.inr (Sum.inr (Sum.inl a)) :: st => if st.length ≤ 7 ∧ (J.cl h a = 214 ∨ J.cl h a = 311) then J.go n ls (J.R (J.gv h (-1) 900) :: st) h else none
      | _ => none) else if r = 9002 then (match st with
      | Sum.inr (Sum.inr (Sum.inl a)) :: st => if st.length ≤ 7 ∧ J.cl h a = 312 ∧ J.us h + 7 + J.ln h a ≤ J.UM then J.go n ls (J.R (J.nx h) :: st) (J.cpy (J.nw h 215 (J.ln h a) (7 + J.ln h a)) a 0 (J.nx h) 0 (J.ln h a)) else none
      | _ => none) else if r = 9003 then (match st with
      | Sum.inr (Sum.inr (Sum.inl a)) :: st => if J.isK h a = true ∧ st.length ≤ 7 then some (Sum.inr (Sum.inl (451, [J.R a], st))) else none
      | _ => none) else if r = 9004 then (match st with
      | Sum.inr (Sum.inr (Sum.inl a)) :: st => if st.length ≤ 7 ∧ J.cl h a = 204 ∧ J.us h + 7 + J.ln h a ≤ J.UM then J.go n ls (J.R (J.nx h) :: st) (J.cpy (J.nw h 204 (J.ln h a) (7 + J.ln h a)) a 0 (J.nx h) 0 (J.ln h a)) else none
      | _ => none) else match st.drop s with
    | Sum.inr (Sum.inr (Sum.inl a)) :: rest => match J.sel (J.cl h a) r with
      | some (k, m) => if k < 2000 ∧ rest.length ≤ 7 ∧ (J.ent (s + 1) m st).length = m then some (Sum.inr (Sum.inl (k, J.ent (s + 1) m st, rest))) else none
      | none => none
    | _ => none
  | .ireturn => match st with
    | [Sum.inl x] => if J.fit t x = true then J.fin (Sum.inl (some (J.I x))) h else none
    | _ => none
  | .lreturn => match st with
    | [Sum.inr (Sum.inl x)] => J.fin (Sum.inl (some (J.L x))) h
    | _ => none
  | .areturn => match st with
    | [Sum.inr (Sum.inr (Sum.inl x))] => J.fin (Sum.inl (some (J.R x))) h
    | _ => none
  | .return_ => match st with
    | [] => J.fin (Sum.inl none) h
    | _ => none
  | .athrow => match st with
    | Sum.inr (Sum.inr (Sum.inl x)) :: _ => if J.cl h x = 21 then J.fin (Sum.inr x) h else none
    | _ => none
  | _ => none
/-- handlers: ModeHouse.read and LogicText.read -/
def J.hd (k pc : Nat) : Option Nat := if k = 56 then (if 4 ≤ pc ∧ pc < 12 then some 15 else if 50 ≤ pc ∧ pc < 74 then some 77 else none) else if k = 57 then (if 25 ≤ pc ∧ pc < 29 then some 32 else none) else none
abbrev J.Pd : Type := Nat → Nat → Nat → List J.V → List J.V → J.H → (J.O → J.H → Prop) → Prop
/-- behind a call -/
def J.af (P : J.Pd) (d k pc n : Nat) (ls st : List J.V) (Q : J.O → J.H → Prop) (o : J.O) (h : J.H) : Prop := match o with
  | Sum.inl none => P d k n ls st h Q
  | Sum.inl (some v) => P d k n ls (v :: st) h Q
  | Sum.inr e => J.cl h e = 21 ∧ (match J.hd k pc with
    | some q => P d k q ls [J.R e] h Q
    | none => Q (Sum.inr e) h)
def J.SR (P : J.Pd) (d k pc n : Nat) (ls : List J.V) (h : J.H) (Q : J.O → J.H → Prop) (x : Option J.Rs) : Prop := match x with
  | none => False
  | some (Sum.inl (pc', ls', st', h')) => P d k pc' ls' st' h' Q
  | some (Sum.inr (Sum.inl (k', l0, st'))) => 0 < d ∧ P (d - 1) k' 0 l0 [] h (J.af P d k pc n ls st' Q)
  | some (Sum.inr (Sum.inr (o, h'))) => J.hd k pc = none ∧ Q o h'
def J.ST (P : J.Pd) (d k pc : Nat) (ls st : List J.V) (h : J.H) (Q : J.O → J.H → Prop) : Prop := match J.cd k pc with
  | none => False
  | some (i, n, r, s, t) => J.SR P d k pc n ls h Q (J.sx i n r s t ls st h)
def J.Mo (P : J.Pd) : Prop := ∀ d k pc ls st h (Q Q' : J.O → J.H → Prop), (∀ o h, Q o h → Q' o h) → P d k pc ls st h Q → P d k pc ls st h Q'
def J.Cl (P : J.Pd) : Prop := ∀ d k pc ls st h Q, J.ST P d k pc ls st h Q → P d k pc ls st h Q
/-- from pc of method k, with these locals, stack and heap, at most d calls deep, the method ends, and Q of its end -/
def J.WP : J.Pd := fun d k pc ls st h Q => ∀ P : J.Pd, J.Mo P → J.Cl P → P d k pc ls st h Q
theorem J.af_mono {P P' : J.Pd} (hP : ∀ d k pc ls st h Q, P d k pc ls st h Q → P' d k pc ls st h Q) (hM : J.Mo P') {d k pc n : Nat} {ls st : List J.V} {Q Q' : J.O → J.H → Prop} (hQ : ∀ o h, Q o h → Q' o h) (o : J.O) (h : J.H) (x : J.af P d k pc n ls st Q o h) : J.af P' d k pc n ls st Q' o h := by
  match o, x with
  | Sum.inl none, x => exact hM _ _ _ _ _ _ _ _ hQ (hP _ _ _ _ _ _ _ x)
  | Sum.inl (some v), x => exact hM _ _ _ _ _ _ _ _ hQ (hP _ _ _ _ _ _ _ x)
  | Sum.inr e, x =>
    obtain ⟨x1, x2⟩ := x
    refine ⟨x1, ?_⟩
    cases hh : J.hd k pc with
    | some q => rw [hh] at x2; exact hM _ _ _ _ _ _ _ _ hQ (hP _ _ _ _ _ _ _ x2)
    | none => rw [hh] at x2; exact hQ _ _ x2
theorem J.ST_mono {P P' : J.Pd} (hP : ∀ d k pc ls st h Q, P d k pc ls st h Q → P' d k pc ls st h Q) (hM : J.Mo P') {d k pc : Nat} {ls st : List J.V} {h : J.H} {Q Q' : J.O → J.H → Prop} (hQ : ∀ o h, Q o h → Q' o h) (x : J.ST P d k pc ls st h Q) : J.ST P' d k pc ls st h Q' := by
  unfold J.ST at x ⊢
  cases hc : J.cd k pc with
  | none => rw [hc] at x; exact x
  | some z =>
    obtain ⟨i, n, r, s, t⟩ := z
    rw [hc] at x
    dsimp only at x ⊢
    generalize J.sx i n r s t ls st h = y at x ⊢
    match y, x with
    | none, x => exact x
    | some (Sum.inl (pc', ls', st', h')), x => exact hM _ _ _ _ _ _ _ _ hQ (hP _ _ _ _ _ _ _ x)
    | some (Sum.inr (Sum.inl (k', l0, st'))), x => exact ⟨x.1, hM _ _ _ _ _ _ _ _ (J.af_mono hP hM hQ) (hP _ _ _ _ _ _ _ x.2)⟩
    | some (Sum.inr (Sum.inr (o, h'))), x => exact ⟨x.1, hQ _ _ x.2⟩
theorem J.WP_mono : J.Mo J.WP := fun d k pc ls st h Q Q' hQ x P hM hC => hM _ _ _ _ _ _ _ _ hQ (x P hM hC)
theorem J.WP_of {d k pc : Nat} {ls st : List J.V} {h : J.H} {Q : J.O → J.H → Prop} (x : J.ST J.WP d k pc ls st h Q) : J.WP d k pc ls st h Q := fun P hM hC => hC _ _ _ _ _ _ _ (J.ST_mono (fun _ _ _ _ _ _ _ y => y P hM hC) hM (fun _ _ q => q) x)
theorem J.WP_to {d k pc : Nat} {ls st : List J.V} {h : J.H} {Q : J.O → J.H → Prop} (x : J.WP d k pc ls st h Q) : J.ST J.WP d k pc ls st h Q :=
  x (J.ST J.WP) (fun _ _ _ _ _ _ _ _ hQ y => J.ST_mono (fun _ _ _ _ _ _ _ z => z) J.WP_mono hQ y) (fun _ _ _ _ _ _ _ y => J.ST_mono (fun _ _ _ _ _ _ _ z => J.WP_of z) J.WP_mono (fun _ _ q => q) y)
theorem J.WP_iff {d k pc : Nat} {ls st : List J.V} {h : J.H} {Q : J.O → J.H → Prop} : J.WP d k pc ls st h Q ↔ J.ST J.WP d k pc ls st h Q := ⟨J.WP_to, J.WP_of⟩
/-- the rule of one instruction -/
theorem J.at {d k pc : Nat} {ls st : List J.V} {h : J.H} {Q : J.O → J.H → Prop} {i : Instr} {n r s : Nat} {t : Int} (hc : J.cd k pc = some (i, n, r, s, t)) : J.WP d k pc ls st h Q ↔ J.SR J.WP d k pc n ls h Q (J.sx i n r s t ls st h) := by
  rw [J.WP_iff, J.ST, hc]
theorem J.deeper {d e k pc : Nat} {ls st : List J.V} {h : J.H} {Q : J.O → J.H → Prop} (hd : d ≤ e) (x : J.WP d k pc ls st h Q) : J.WP e k pc ls st h Q := by
  refine x (fun d k pc ls st h Q => ∀ e, d ≤ e → J.WP e k pc ls st h Q) (fun d k pc ls st h Q Q' hQ y e he => J.WP_mono _ _ _ _ _ _ _ _ hQ (y e he)) (fun d k pc ls st h Q y e he => ?_) e hd
  refine J.WP_of ?_
  unfold J.ST at y ⊢
  cases hc : J.cd k pc with
  | none => rw [hc] at y; exact y
  | some z =>
    obtain ⟨i, n, r, s, t⟩ := z
    rw [hc] at y
    dsimp only at y ⊢
    generalize J.sx i n r s t ls st h = w at y ⊢
    match w, y with
    | none, y => exact y
    | some (Sum.inl (pc', ls', st', h')), y => exact y e he
    | some (Sum.inr (Sum.inl (k', l0, st'))), y =>
      refine ⟨Nat.lt_of_lt_of_le y.1 he, J.WP_mono _ _ _ _ _ _ _ _ (fun o h' q => ?_) (y.2 (e - 1) (by omega))⟩
      match o, q with
      | Sum.inl none, q => exact q e he
      | Sum.inl (some v), q => exact q e he
      | Sum.inr x, q =>
        obtain ⟨x1, x2⟩ := q
        refine ⟨x1, ?_⟩
        cases hh : J.hd k pc with
        | some q => rw [hh] at x2; exact x2 e he
        | none => rw [hh] at x2; exact x2
    | some (Sum.inr (Sum.inr (o, h'))), y => exact y
