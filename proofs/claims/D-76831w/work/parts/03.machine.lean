/-! THE ABSTRACT MACHINE (hv_): the heap is a function of cell names; it is run over the decoded code of every method.
    A cell: .inr (class number, fields) or .inl (array tag, length, contents); references are names. -/
set_option maxRecDepth 100000
abbrev hv_H : Type := Nat × Nat × (Nat → va_E)
abbrev hv_L : Type := List (Option Value)
abbrev hv_R : Type := (Option Value ⊕ Nat) × hv_H
abbrev hv_S : Type := Nat × hv_L × List Value
/-- what one instruction comes to: the next place | a return | a call (method, arguments, next pc, stack left) | a throw -/
abbrev hv_O : Type := (hv_S × hv_H) ⊕ ((Option Value × hv_H) ⊕ ((Nat × List Value × Nat × List Value × hv_H) ⊕ (Nat × hv_H)))
def hv_none : va_E := .inr (1000000, [])
def hv_cls (e : va_E) : Nat := match e with
  | .inr (c, _) => c
  | .inl _ => 1000001
def hv_tag (e : va_E) : Nat := match e with
  | .inr _ => 1000001
  | .inl (t, _) => t
def hv_len (e : va_E) : Nat := match e with
  | .inr _ => 0
  | .inl (_, n, _) => n
/-- a field's value, put -/
def hv_fv (e : va_E) (k : Nat) : Value := match e with
  | .inr (_, vs) => vs.getD k .null
  | .inl _ => .null
def hv_fl (e : va_E) : Nat := match e with
  | .inr (_, vs) => vs.length
  | .inl _ => 0
def hv_pf (e : va_E) (k : Nat) (v : Value) : va_E := match e with
  | .inr (c, vs) => .inr (c, vs.set k v)
  | .inl x => .inl x
/-- arrays: whether they hold ints, longs, references; their places -/
def hv_isI (e : va_E) : Bool := match e with
  | .inl (_, _, .inl _) => true
  | _ => false
def hv_isJ (e : va_E) : Bool := match e with
  | .inl (_, _, .inr (.inl _)) => true
  | _ => false
def hv_isA (e : va_E) : Bool := match e with
  | .inl (_, _, .inr (.inr (.inr (.inr _)))) => true
  | _ => false
def hv_ai (e : va_E) (i : Nat) : Int32 := match e with
  | .inl (_, _, .inl g) => g i
  | _ => 0
def hv_aj (e : va_E) (i : Nat) : Int64 := match e with
  | .inl (_, _, .inr (.inl g)) => g i
  | _ => 0
def hv_aa (e : va_E) (i : Nat) : Option Nat := match e with
  | .inl (_, _, .inr (.inr (.inr (.inr g)))) => g i
  | _ => none
def hv_si (e : va_E) (i : Nat) (x : Int32) : va_E := match e with
  | .inl (t, n, .inl g) => .inl (t, n, .inl (upd g i x))
  | e => e
def hv_sj (e : va_E) (i : Nat) (x : Int64) : va_E := match e with
  | .inl (t, n, .inr (.inl g)) => .inl (t, n, .inr (.inl (vp_updL g i x)))
  | e => e
def hv_sa (e : va_E) (i : Nat) (x : Option Nat) : va_E := match e with
  | .inl (t, n, .inr (.inr (.inr (.inr g)))) => .inl (t, n, .inr (.inr (.inr (.inr (va_up g i x)))))
  | e => e
/-- the copy of n places from the front of one array to the front of another of its kind -/
def hv_cp (e e2 : va_E) (n : Nat) : va_E := match e, e2 with
  | .inl (_, _, .inl g), .inl (t, k, .inl g2) => .inl (t, k, .inl (va_cpy g g2 0 0 n))
  | .inl (_, _, .inr (.inr (.inr (.inr g)))), .inl (t, k, .inr (.inr (.inr (.inr g2)))) => .inl (t, k, .inr (.inr (.inr (.inr (va_cpy g g2 0 0 n)))))
  | _, e2 => e2
def hv_rfo (v : Value) : Option Nat := match v with
  | .ref a => some a
  | _ => none
def hv_isR (v : Value) : Bool := match v with
  | .ref _ => true
  | .null => true
  | _ => false
def hv_tgt (pc : Nat) (off : Int) : Nat := ((pc : Int) + off).toNat
def hv_tok (pc : Nat) (off : Int) : Bool := decide ((0 : Int) ≤ (pc : Int) + off)
/-- a place's arguments: what is popped, in order, and what is left -/
def hv_pop (n : Nat) (st : List Value) : Option (List Value × List Value) := if n ≤ st.length then some ((st.take n).reverse, st.drop n) else none
def hv_fit8 (r : List Value) : Bool := decide (r.length ≤ 4) || (decide (r.length ≤ 8) && r.all (fun v => match v with
  | .long _ => false
  | .double _ => false
  | _ => true))
def hv_exp : List Value → hv_L
  | [] => []
  | v :: r => match v with
    | .long x => some (.long x) :: none :: hv_exp r
    | .double x => some (.double x) :: none :: hv_exp r
    | v => some v :: hv_exp r
def hv_ent (n : Nat) (as : List Value) : hv_L := hv_exp as ++ List.replicate (n - (hv_exp as).length) none
/-- instructions that touch neither heap nor calls -/
def hv_i2 (g : Int32 → Int32 → Int32) (pc : Nat) (L : hv_L) (st : List Value) : Option hv_S := match st with
  | .int y :: .int x :: r => some (pc, L, .int (g x y) :: r)
  | _ => none
def hv_i1 (g : Int32 → Value) (pc : Nat) (L : hv_L) (st : List Value) : Option hv_S := match st with
  | .int x :: r => some (pc, L, g x :: r)
  | _ => none
def hv_l2 (g : Int64 → Int64 → Value) (pc : Nat) (L : hv_L) (st : List Value) : Option hv_S := match st with
  | .long y :: .long x :: r => some (pc, L, g x y :: r)
  | _ => none
def hv_dv (pc : Nat) (L : hv_L) (st : List Value) : Option hv_S := match st with
  | .int y :: .int x :: r => if y = 0 then none else some (pc, L, .int (x / y) :: r)
  | _ => none
def hv_rm (pc : Nat) (L : hv_L) (st : List Value) : Option hv_S := match st with
  | .int y :: .int x :: r => if y = 0 then none else some (pc, L, .int (x - x / y * y) :: r)
  | _ => none
def hv_ldv (pc : Nat) (L : hv_L) (st : List Value) : Option hv_S := match st with
  | .long y :: .long x :: r => if y = 0 then none else some (pc, L, .long (x / y) :: r)
  | _ => none
def hv_lrm (pc : Nat) (L : hv_L) (st : List Value) : Option hv_S := match st with
  | .long y :: .long x :: r => if y = 0 then none else some (pc, L, .long (x - x / y * y) :: r)
  | _ => none
def hv_ldi (i pc : Nat) (L : hv_L) (st : List Value) : Option hv_S := match L[i]? with
  | some (some (.int x)) => some (pc, L, .int x :: st)
  | _ => none
def hv_ldj (i pc : Nat) (L : hv_L) (st : List Value) : Option hv_S := match L[i]? with
  | some (some (.long x)) => match L[i + 1]? with
    | some none => some (pc, L, .long x :: st)
    | _ => none
  | _ => none
def hv_lda (i pc : Nat) (L : hv_L) (st : List Value) : Option hv_S := match L[i]? with
  | some (some v) => if hv_isR v = true then some (pc, L, v :: st) else none
  | _ => none
def hv_sti (i pc : Nat) (L : hv_L) (st : List Value) : Option hv_S := match st with
  | .int x :: r => if i < L.length then some (pc, L.set i (some (.int x)), r) else none
  | _ => none
def hv_stj (i pc : Nat) (L : hv_L) (st : List Value) : Option hv_S := match st with
  | .long x :: r => if i + 1 < L.length then some (pc, (L.set i (some (.long x))).set (i + 1) none, r) else none
  | _ => none
def hv_sta (i pc : Nat) (L : hv_L) (st : List Value) : Option hv_S := match st with
  | v :: r => if hv_isR v = true then (if i < L.length then some (pc, L.set i (some v), r) else none) else none
  | _ => none
def hv_inc (i : Nat) (n : Int) (pc : Nat) (L : hv_L) (st : List Value) : Option hv_S := match L[i]? with
  | some (some (.int x)) => some (pc, L.set i (some (.int (x + Int32.ofInt n))), st)
  | _ => none
def hv_if1 (c : Jvm.ClassFile.Cond) (t pc : Nat) (L : hv_L) (st : List Value) : Option hv_S := match st with
  | .int x :: r => match c with
    | .eq => if x = 0 then some (t, L, r) else some (pc, L, r)
    | .ne => if ¬ x = 0 then some (t, L, r) else some (pc, L, r)
    | .lt => if x < 0 then some (t, L, r) else some (pc, L, r)
    | .ge => if 0 ≤ x then some (t, L, r) else some (pc, L, r)
    | .gt => if 0 < x then some (t, L, r) else some (pc, L, r)
    | .le => if x ≤ 0 then some (t, L, r) else some (pc, L, r)
  | _ => none
def hv_if2 (c : Jvm.ClassFile.Cond) (t pc : Nat) (L : hv_L) (st : List Value) : Option hv_S := match st with
  | .int y :: .int x :: r => match c with
    | .eq => if x = y then some (t, L, r) else some (pc, L, r)
    | .ne => if ¬ x = y then some (t, L, r) else some (pc, L, r)
    | .lt => if x < y then some (t, L, r) else some (pc, L, r)
    | .ge => if y ≤ x then some (t, L, r) else some (pc, L, r)
    | .gt => if y < x then some (t, L, r) else some (pc, L, r)
    | .le => if x ≤ y then some (t, L, r) else some (pc, L, r)
  | _ => none
def hv_ifn (t pc : Nat) (L : hv_L) (st : List Value) : Option hv_S := match st with
  | .null :: r => some (t, L, r)
  | .ref _ :: r => some (pc, L, r)
  | _ => none
def hv_tsw (dflt lo hi : Int) (offs : Array Int) (pc : Nat) (L : hv_L) (st : List Value) : Option hv_S := match st with
  | .int x :: r => if x.toInt < lo ∨ hi < x.toInt then (if hv_tok pc dflt = true then some (hv_tgt pc dflt, L, r) else none) else match offs[(x.toInt - lo).toNat]? with
    | some o => if hv_tok pc o = true then some (hv_tgt pc o, L, r) else none
    | none => none
  | _ => none
def hv_lsw (dflt : Int) (ps : Array (Int × Int)) (pc : Nat) (L : hv_L) (st : List Value) : Option hv_S := match st with
  | .int x :: r => if (ps.toList.zip (ps.toList.drop 1)).all (fun (a, next) => a.1 < next.1) = true then (if hv_tok pc (Op.lookupswitch.offset ps.toList dflt x.toInt) = true then some (hv_tgt pc (Op.lookupswitch.offset ps.toList dflt x.toInt), L, r) else none) else none
  | _ => none
def hv_dup (pc : Nat) (L : hv_L) (st : List Value) : Option hv_S := match st with
  | v :: r => if v.category = 1 then some (pc, L, v :: v :: r) else none
  | _ => none
def hv_pp (pc : Nat) (L : hv_L) (st : List Value) : Option hv_S := match st with
  | v :: r => if v.category = 1 then some (pc, L, r) else none
  | _ => none
def hv_dx1 (pc : Nat) (L : hv_L) (st : List Value) : Option hv_S := match st with
  | v :: w :: r => if v.category = 1 ∧ w.category = 1 then some (pc, L, v :: w :: v :: r) else none
  | _ => none
def hv_d2 (pc : Nat) (L : hv_L) (st : List Value) : Option hv_S := match st with
  | v :: w :: r => if v.category = 1 ∧ w.category = 1 then some (pc, L, v :: w :: v :: w :: r) else none
  | _ => none
def hv_pure (I : Instr) (len pc : Nat) (L : hv_L) (st : List Value) : Option hv_S := match I with
  | .iconst n => some (pc + len, L, .int (Int32.ofInt n) :: st)
  | .bipush n => some (pc + len, L, .int (Int8.ofInt n).toInt32 :: st)
  | .sipush n => some (pc + len, L, .int (Int16.ofInt n).toInt32 :: st)
  | .lconst n => some (pc + len, L, .long (Int64.ofNat n) :: st)
  | .aconst_null => some (pc + len, L, .null :: st)
  | .iload i => hv_ldi i (pc + len) L st
  | .iload_n i => hv_ldi i (pc + len) L st
  | .lload i => hv_ldj i (pc + len) L st
  | .lload_n i => hv_ldj i (pc + len) L st
  | .aload i => hv_lda i (pc + len) L st
  | .aload_n i => hv_lda i (pc + len) L st
  | .istore i => hv_sti i (pc + len) L st
  | .istore_n i => hv_sti i (pc + len) L st
  | .lstore i => hv_stj i (pc + len) L st
  | .lstore_n i => hv_stj i (pc + len) L st
  | .astore i => hv_sta i (pc + len) L st
  | .astore_n i => hv_sta i (pc + len) L st
  | .iinc i n => hv_inc i n (pc + len) L st
  | .iadd => hv_i2 (fun x y => x + y) (pc + len) L st
  | .isub => hv_i2 (fun x y => x - y) (pc + len) L st
  | .imul => hv_i2 (fun x y => x * y) (pc + len) L st
  | .iand => hv_i2 (fun x y => x &&& y) (pc + len) L st
  | .ior => hv_i2 (fun x y => x ||| y) (pc + len) L st
  | .ixor => hv_i2 (fun x y => x ^^^ y) (pc + len) L st
  | .ishl => hv_i2 (fun x y => x <<< (y &&& 31)) (pc + len) L st
  | .ishr => hv_i2 (fun x y => x >>> (y &&& 31)) (pc + len) L st
  | .iushr => hv_i2 (fun x y => (x.toUInt32 >>> (y.toUInt32 &&& Int32.toUInt32 31)).toInt32) (pc + len) L st
  | .idiv => hv_dv (pc + len) L st
  | .irem => hv_rm (pc + len) L st
  | .ineg => hv_i1 (fun x => .int (-x)) (pc + len) L st
  | .i2l => hv_i1 (fun x => .long x.toInt64) (pc + len) L st
  | .i2b => hv_i1 (fun x => .int x.toInt8.toInt32) (pc + len) L st
  | .i2c => hv_i1 (fun x => .int (x.toUInt32 % 65536).toInt32) (pc + len) L st
  | .l2i => match st with
    | .long x :: r => some (pc + len, L, .int x.toInt32 :: r)
    | _ => none
  | .ladd => hv_l2 (fun x y => .long (x + y)) (pc + len) L st
  | .lsub => hv_l2 (fun x y => .long (x - y)) (pc + len) L st
  | .lmul => hv_l2 (fun x y => .long (x * y)) (pc + len) L st
  | .lcmp => hv_l2 (fun x y => .int (lg_cmp x y)) (pc + len) L st
  | .ldiv => hv_ldv (pc + len) L st
  | .lrem => hv_lrm (pc + len) L st
  | .dup => hv_dup (pc + len) L st
  | .pop => hv_pp (pc + len) L st
  | .dup_x1 => hv_dx1 (pc + len) L st
  | .dup2 => hv_d2 (pc + len) L st
  | .ifCond c off => if hv_tok pc off = true then hv_if1 c (hv_tgt pc off) (pc + len) L st else none
  | .if_icmp c off => if hv_tok pc off = true then hv_if2 c (hv_tgt pc off) (pc + len) L st else none
  | .ifnull off => if hv_tok pc off = true then hv_ifn (hv_tgt pc off) (pc + len) L st else none
  | .ifnonnull off => if hv_tok pc off = true then hv_ifn (pc + len) (hv_tgt pc off) L st else none
  | .goto off => if hv_tok pc off = true then some (hv_tgt pc off, L, st) else none
  | .tableswitch dflt lo hi offs => hv_tsw dflt lo hi offs pc L st
  | .lookupswitch dflt ps => hv_lsw dflt ps pc L st
  | _ => none
