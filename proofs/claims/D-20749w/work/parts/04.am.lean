/-! THE ABSTRACT MACHINE: an executable picture of the walk. A heap is (cells made, slots made, what stands where); an address carries its number, its length (arrays) and its kind. -/
abbrev am_H : Type := Nat × Nat × (Nat → Nat → Value)
abbrev am_L : Type := List (Option Value)
abbrev am_R : Type := Option Value × am_H
abbrev am_O : Type := Option ((Nat × am_L × List Value × am_H) ⊕ am_R ⊕ (Nat × List Value × Nat × am_L × List Value × am_H))
/-- kind, length, number of an address -/
def am_k (a : Nat) : Nat := a % 64
def am_n (a : Nat) : Nat := a / 64 % 262144
def am_i (a : Nat) : Nat := a / 16777216
def am_a (i n k : Nat) : Nat := 16777216 * i + (64 * n + k)
def am_g (h : am_H) (a k : Nat) : Value := h.2.2 a k
def am_p (h : am_H) (a k : Nat) (v : Value) : am_H := (h.1, h.2.1, fun b j => if b = a ∧ j = k then v else h.2.2 b j)
def am_new (h : am_H) (a n : Nat) (f : Nat → Value) : am_H := (h.1 + 1, h.2.1 + n, fun b j => if b = a then f j else h.2.2 b j)
def am_copy (h : am_H) (a b sp dp n : Nat) : am_H := (h.1, h.2.1, fun c j => if c = b ∧ dp ≤ j ∧ j < dp + n then h.2.2 a (sp + (j - dp)) else h.2.2 c j)
/-- what fits a field -/
def am_fit (ty : FieldType) (v : Value) : Bool := fits ty v && decide (narrow ty v = v)
def am_nx (pc : Nat) (ls : am_L) (st : List Value) (h : am_H) : am_O := some (.inl (pc, ls, st, h))
def am_go (pc : Nat) (off : Int) (ls : am_L) (st : List Value) (h : am_H) : am_O := if 0 ≤ (pc : Int) + off then some (.inl (((pc : Int) + off).toNat, ls, st, h)) else none
def am_ret (v : Option Value) (h : am_H) : am_O := some (.inr (.inl (v, h)))
def am_w (n k : Nat) (o : am_O) : am_O := if n = k then o else none
def am_ins (m pc : Nat) : Option (Instr × Nat) := match decode (am_code m) pc with
  | .ok r => some r
  | .error _ => none
/-! locals: the place behind a long holds a mark -/
def am_li (ls : am_L) (k pc : Nat) (st : List Value) (h : am_H) : am_O := match ls[k]? with
  | some (some (.int x)) => am_nx pc ls (.int x :: st) h
  | _ => none
def am_la (ls : am_L) (k pc : Nat) (st : List Value) (h : am_H) : am_O := match ls[k]? with
  | some (some (.ref x)) => am_nx pc ls (.ref x :: st) h
  | some (some .null) => am_nx pc ls (.null :: st) h
  | _ => none
def am_ll (ls : am_L) (k pc : Nat) (st : List Value) (h : am_H) : am_O := match ls[k]?, ls[k + 1]? with
  | some (some (.long x)), some (some (.retAddr _)) => am_nx pc ls (.long x :: st) h
  | _, _ => none
def am_si (ls : am_L) (k pc : Nat) (st : List Value) (h : am_H) : am_O := match st with
  | .int x :: r => if k < ls.length then am_nx pc (ls.set k (some (.int x))) r h else none
  | _ => none
def am_sa (ls : am_L) (k pc : Nat) (st : List Value) (h : am_H) : am_O := match st with
  | .ref x :: r => if k < ls.length then am_nx pc (ls.set k (some (.ref x))) r h else none
  | .null :: r => if k < ls.length then am_nx pc (ls.set k (some .null)) r h else none
  | _ => none
def am_sl (ls : am_L) (k pc : Nat) (st : List Value) (h : am_H) : am_O := match st with
  | .long x :: r => if k + 1 < ls.length then am_nx pc ((ls.set k (some (.long x))).set (k + 1) (some (.retAddr 0))) r h else none
  | _ => none
def am_inc (ls : am_L) (k : Nat) (c : Int) (pc : Nat) (st : List Value) (h : am_H) : am_O := match ls[k]? with
  | some (some (.int x)) => am_nx pc (ls.set k (some (.int (x + Int32.ofInt c)))) st h
  | _ => none
/-- constants, locals, the stack -/
def am_s1 (i : Instr) (n pc : Nat) (ls : am_L) (st : List Value) (h : am_H) : am_O := match i with
  | .aconst_null => am_w n 1 (am_nx (pc + 1) ls (.null :: st) h)
  | .iconst k => am_w n 1 (am_nx (pc + 1) ls (.int (Int32.ofInt k) :: st) h)
  | .bipush k => am_w n 2 (am_nx (pc + 2) ls (.int (Int8.ofInt k).toInt32 :: st) h)
  | .sipush k => am_w n 3 (am_nx (pc + 3) ls (.int (Int16.ofInt k).toInt32 :: st) h)
  | .lconst k => am_w n 1 (am_nx (pc + 1) ls (.long (Int64.ofNat (k : Nat)) :: st) h)
  | .iload_n k => am_w n 1 (am_li ls k (pc + 1) st h)
  | .iload k => am_w n 2 (am_li ls k (pc + 2) st h)
  | .aload_n k => am_w n 1 (am_la ls k (pc + 1) st h)
  | .aload k => am_w n 2 (am_la ls k (pc + 2) st h)
  | .lload_n k => am_w n 1 (am_ll ls k (pc + 1) st h)
  | .lload k => am_w n 2 (am_ll ls k (pc + 2) st h)
  | .istore_n k => am_w n 1 (am_si ls k (pc + 1) st h)
  | .istore k => am_w n 2 (am_si ls k (pc + 2) st h)
  | .astore_n k => am_w n 1 (am_sa ls k (pc + 1) st h)
  | .astore k => am_w n 2 (am_sa ls k (pc + 2) st h)
  | .lstore_n k => am_w n 1 (am_sl ls k (pc + 1) st h)
  | .lstore k => am_w n 2 (am_sl ls k (pc + 2) st h)
  | .iinc k c => am_w n 3 (am_inc ls k c (pc + 3) st h)
  | .dup => am_w n 1 (match st with
    | v :: r => if v.category = 1 then am_nx (pc + 1) ls (v :: v :: r) h else none
    | _ => none)
  | .pop => am_w n 1 (match st with
    | v :: r => if v.category = 1 then am_nx (pc + 1) ls r h else none
    | _ => none)
  | _ => none
def am_ii (f : Int32 → Int32 → Int32) (pc : Nat) (ls : am_L) (st : List Value) (h : am_H) : am_O := match st with
  | .int y :: .int x :: r => am_nx (pc + 1) ls (.int (f x y) :: r) h
  | _ => none
def am_i1 (f : Int32 → Value) (pc : Nat) (ls : am_L) (st : List Value) (h : am_H) : am_O := match st with
  | .int x :: r => am_nx (pc + 1) ls (f x :: r) h
  | _ => none
def am_jj (f : Int64 → Int64 → Int64) (pc : Nat) (ls : am_L) (st : List Value) (h : am_H) : am_O := match st with
  | .long y :: .long x :: r => am_nx (pc + 1) ls (.long (f x y) :: r) h
  | _ => none
def am_ji (f : Int64 → Int32 → Int64) (pc : Nat) (ls : am_L) (st : List Value) (h : am_H) : am_O := match st with
  | .int y :: .long x :: r => am_nx (pc + 1) ls (.long (f x y) :: r) h
  | _ => none
/-- reckoning with ints -/
def am_s2 (i : Instr) (n pc : Nat) (ls : am_L) (st : List Value) (h : am_H) : am_O := match i with
  | .iadd => am_w n 1 (am_ii (fun x y => x + y) pc ls st h)
  | .isub => am_w n 1 (am_ii (fun x y => x - y) pc ls st h)
  | .imul => am_w n 1 (am_ii (fun x y => x * y) pc ls st h)
  | .iand => am_w n 1 (am_ii (fun x y => x &&& y) pc ls st h)
  | .ior => am_w n 1 (am_ii (fun x y => x ||| y) pc ls st h)
  | .ixor => am_w n 1 (am_ii (fun x y => x ^^^ y) pc ls st h)
  | .ishl => am_w n 1 (am_ii (fun x y => x <<< (y &&& 31)) pc ls st h)
  | .ishr => am_w n 1 (am_ii (fun x y => x >>> (y &&& 31)) pc ls st h)
  | .iushr => am_w n 1 (am_ii (fun x y => (x.toUInt32 >>> (y.toUInt32 &&& Int32.toUInt32 31)).toInt32) pc ls st h)
  | .idiv => am_w n 1 (match st with
    | .int y :: .int x :: r => if y = 0 then none else am_nx (pc + 1) ls (.int (x / y) :: r) h
    | _ => none)
  | .irem => am_w n 1 (match st with
    | .int y :: .int x :: r => if y = 0 then none else am_nx (pc + 1) ls (.int (x - x / y * y) :: r) h
    | _ => none)
  | .ineg => am_w n 1 (am_i1 (fun x => .int (-x)) pc ls st h)
  | .i2l => am_w n 1 (am_i1 (fun x => .long x.toInt64) pc ls st h)
  | .i2b => am_w n 1 (am_i1 (fun x => .int x.toInt8.toInt32) pc ls st h)
  | .i2s => am_w n 1 (am_i1 (fun x => .int x.toInt16.toInt32) pc ls st h)
  | .i2c => am_w n 1 (am_i1 (fun x => .int (x.toUInt32 % 65536).toInt32) pc ls st h)
  | _ => none
/-- reckoning with longs -/
def am_s3 (i : Instr) (n pc : Nat) (ls : am_L) (st : List Value) (h : am_H) : am_O := match i with
  | .ladd => am_w n 1 (am_jj (fun x y => x + y) pc ls st h)
  | .lsub => am_w n 1 (am_jj (fun x y => x - y) pc ls st h)
  | .lmul => am_w n 1 (am_jj (fun x y => x * y) pc ls st h)
  | .land => am_w n 1 (am_jj (fun x y => x &&& y) pc ls st h)
  | .lor => am_w n 1 (am_jj (fun x y => x ||| y) pc ls st h)
  | .lshl => am_w n 1 (am_ji (fun x y => x <<< (y.toInt64 &&& 63)) pc ls st h)
  | .lshr => am_w n 1 (am_ji (fun x y => x >>> (y.toInt64 &&& 63)) pc ls st h)
  | .ldiv => am_w n 1 (match st with
    | .long y :: .long x :: r => if y = 0 then none else am_nx (pc + 1) ls (.long (x / y) :: r) h
    | _ => none)
  | .lrem => am_w n 1 (match st with
    | .long y :: .long x :: r => if y = 0 then none else am_nx (pc + 1) ls (.long (x - x / y * y) :: r) h
    | _ => none)
  | .lneg => am_w n 1 (match st with
    | .long x :: r => am_nx (pc + 1) ls (.long (-x) :: r) h
    | _ => none)
  | .l2i => am_w n 1 (match st with
    | .long x :: r => am_nx (pc + 1) ls (.int x.toInt32 :: r) h
    | _ => none)
  | .lcmp => am_w n 1 (match st with
    | .long y :: .long x :: r => am_nx (pc + 1) ls (.int (lg_cmp x y) :: r) h
    | _ => none)
  | _ => none
/-- branches -/
def am_br (b : Prop) [Decidable b] (pc : Nat) (off : Int) (ls : am_L) (r : List Value) (h : am_H) : am_O := if 0 ≤ (pc : Int) + off then (if b then am_nx ((pc : Int) + off).toNat ls r h else am_nx (pc + 3) ls r h) else none
def am_if1 (c : Int32 → Prop) [∀ x, Decidable (c x)] (pc : Nat) (off : Int) (ls : am_L) (st : List Value) (h : am_H) : am_O := match st with
  | .int x :: r => am_br (c x) pc off ls r h
  | _ => none
def am_if2 (c : Int32 → Int32 → Prop) [∀ x y, Decidable (c x y)] (pc : Nat) (off : Int) (ls : am_L) (st : List Value) (h : am_H) : am_O := match st with
  | .int y :: .int x :: r => am_br (c x y) pc off ls r h
  | _ => none
/-- two addresses may be compared where one of them is no cell of the start's, or both are one -/
def am_real (a : Nat) : Bool := decide (am_k a < 50)
def am_cmpok (a b : Nat) : Bool := (decide (a = b) || decide (am_P ≤ am_i a) || decide (am_P ≤ am_i b)) && (am_real a && am_real b)
def am_acmp (neg : Bool) (pc : Nat) (off : Int) (ls : am_L) (st : List Value) (h : am_H) : am_O := match st with
  | .ref b :: .ref a :: r => if am_cmpok a b = true then am_br ((decide (a = b) ^^ neg) = true) pc off ls r h else none
  | .null :: .ref a :: r => if am_real a = true then am_br (neg = true) pc off ls r h else none
  | .ref b :: .null :: r => if am_real b = true then am_br (neg = true) pc off ls r h else none
  | .null :: .null :: r => am_br (neg = false) pc off ls r h
  | _ => none
def am_ifn (neg : Bool) (pc : Nat) (off : Int) (ls : am_L) (st : List Value) (h : am_H) : am_O := match st with
  | .ref a :: r => if am_real a = true then am_br (neg = true) pc off ls r h else none
  | .null :: r => am_br (neg = false) pc off ls r h
  | _ => none
def am_tsw (d lo hi : Int) (os : Array Int) (pc : Nat) (ls : am_L) (st : List Value) (h : am_H) : am_O := match st with
  | .int x :: r => if x.toInt < lo ∨ hi < x.toInt then am_go pc d ls r h else match os[(x.toInt - lo).toNat]? with
    | some o => am_go pc o ls r h
    | none => none
  | _ => none
def am_lsw (d : Int) (ps : Array (Int × Int)) (pc : Nat) (ls : am_L) (st : List Value) (h : am_H) : am_O := match st with
  | .int x :: r => if (ps.toList.zip (ps.toList.drop 1)).all (fun (a, next) => a.1 < next.1) = true then am_go pc (Op.lookupswitch.offset ps.toList d x.toInt) ls r h else none
  | _ => none
def am_s4 (i : Instr) (n pc : Nat) (ls : am_L) (st : List Value) (h : am_H) : am_O := match i with
  | .ifCond .eq off => am_w n 3 (am_if1 (fun x => x = 0) pc off ls st h)
  | .ifCond .ne off => am_w n 3 (am_if1 (fun x => ¬ x = 0) pc off ls st h)
  | .ifCond .lt off => am_w n 3 (am_if1 (fun x => x < 0) pc off ls st h)
  | .ifCond .ge off => am_w n 3 (am_if1 (fun x => 0 ≤ x) pc off ls st h)
  | .ifCond .gt off => am_w n 3 (am_if1 (fun x => 0 < x) pc off ls st h)
  | .ifCond .le off => am_w n 3 (am_if1 (fun x => x ≤ 0) pc off ls st h)
  | .if_icmp .eq off => am_w n 3 (am_if2 (fun x y => x = y) pc off ls st h)
  | .if_icmp .ne off => am_w n 3 (am_if2 (fun x y => ¬ x = y) pc off ls st h)
  | .if_icmp .lt off => am_w n 3 (am_if2 (fun x y => x < y) pc off ls st h)
  | .if_icmp .ge off => am_w n 3 (am_if2 (fun x y => y ≤ x) pc off ls st h)
  | .if_icmp .gt off => am_w n 3 (am_if2 (fun x y => y < x) pc off ls st h)
  | .if_icmp .le off => am_w n 3 (am_if2 (fun x y => x ≤ y) pc off ls st h)
  | .if_acmp .eq off => am_w n 3 (am_acmp false pc off ls st h)
  | .if_acmp .ne off => am_w n 3 (am_acmp true pc off ls st h)
  | .ifnull off => am_w n 3 (am_ifn false pc off ls st h)
  | .ifnonnull off => am_w n 3 (am_ifn true pc off ls st h)
  | .goto off => am_w n 3 (am_go pc off ls st h)
  | .tableswitch d lo hi os => am_tsw d lo hi os pc ls st h
  | .lookupswitch d ps => am_lsw d ps pc ls st h
  | _ => none
/-- fields, constants of the pool -/
def am_s5 (m : Nat) (i : Instr) (n pc : Nat) (ls : am_L) (st : List Value) (h : am_H) : am_O := match i with
  | .getfield x => am_w n 3 (match st, am_fl (am_own m) x with
    | .ref a :: r, some (c, k) => if am_k a = c then am_nx (pc + 3) ls (am_g h a k :: r) h else none
    | _, _ => none)
  | .putfield x => am_w n 3 (match st, am_fl (am_own m) x with
    | v :: .ref a :: r, some (c, k) => if am_k a = c ∧ am_fit (am_ty c k) v = true ∧ am_P ≤ am_i a ∧ (am_fin c k = true → am_isI m = true ∧ am_dcl c k = am_own m) then am_nx (pc + 3) ls r (am_p h a k v) else none
    | _, _ => none)
  | .getstatic x => am_w n 3 (match am_st (am_own m) x with
    | some v => am_nx (pc + 3) ls (v :: st) h
    | none => none)
  | .ldc x => am_w n 2 (match am_cn (am_own m) x with
    | some (.int v) => am_nx (pc + 2) ls (.int v :: st) h
    | some (.ref v) => am_nx (pc + 2) ls (.ref v :: st) h
    | _ => none)
  | .ldc_w x => am_w n 3 (match am_cn (am_own m) x with
    | some (.int v) => am_nx (pc + 3) ls (.int v :: st) h
    | some (.ref v) => am_nx (pc + 3) ls (.ref v :: st) h
    | _ => none)
  | .ldc2_w x => am_w n 3 (match am_cn (am_own m) x with
    | some (.long v) => am_nx (pc + 3) ls (.long v :: st) h
    | _ => none)
  | _ => none
def am_ald (b : Nat → Bool) (pc : Nat) (ls : am_L) (st : List Value) (h : am_H) : am_O := match st with
  | .int j :: .ref a :: r => if b (am_k a) = true ∧ ¬ (j < 0 ∨ am_n a ≤ j.toNatClampNeg) then am_nx (pc + 1) ls (am_g h a j.toNatClampNeg :: r) h else none
  | _ => none
def am_ast (b : Nat) (f : Int32 → Int32) (pc : Nat) (ls : am_L) (st : List Value) (h : am_H) : am_O := match st with
  | .int x :: .int j :: .ref a :: r => if am_k a = b ∧ am_P ≤ am_i a ∧ ¬ (j < 0 ∨ am_n a ≤ j.toNatClampNeg) then am_nx (pc + 1) ls r (am_p h a j.toNatClampNeg (.int (f x))) else none
  | _ => none
def am_mk (k : Nat) (z : Value) (pc : Nat) (ls : am_L) (st : List Value) (h : am_H) : am_O := match st with
  | .int n :: r => if ¬ n < 0 ∧ n.toNatClampNeg ≤ 65536 then am_nx pc ls (.ref (am_a h.1 n.toNatClampNeg k) :: r) (am_new h (am_a h.1 n.toNatClampNeg k) n.toNatClampNeg (fun _ => z)) else none
  | _ => none
/-- arrays: kinds 40 int, 41 byte, 42 short, 43 long, from 44 on references; objects -/
def am_s6 (m : Nat) (i : Instr) (n pc : Nat) (ls : am_L) (st : List Value) (h : am_H) : am_O := match i with
  | .iaload => am_w n 1 (am_ald (fun k => k == 40) pc ls st h)
  | .baload => am_w n 1 (am_ald (fun k => k == 41) pc ls st h)
  | .saload => am_w n 1 (am_ald (fun k => k == 42) pc ls st h)
  | .laload => am_w n 1 (am_ald (fun k => k == 43) pc ls st h)
  | .aaload => am_w n 1 (am_ald (fun k => decide (44 ≤ k ∧ k < 50)) pc ls st h)
  | .iastore => am_w n 1 (am_ast 40 (fun x => x) pc ls st h)
  | .bastore => am_w n 1 (am_ast 41 (fun x => x.toInt8.toInt32) pc ls st h)
  | .sastore => am_w n 1 (am_ast 42 (fun x => x.toInt16.toInt32) pc ls st h)
  | .lastore => am_w n 1 (match st with
    | .long x :: .int j :: .ref a :: r => if am_k a = 43 ∧ am_P ≤ am_i a ∧ ¬ (j < 0 ∨ am_n a ≤ j.toNatClampNeg) then am_nx (pc + 1) ls r (am_p h a j.toNatClampNeg (.long x)) else none
    | _ => none)
  | .aastore => am_w n 1 (match st with
    | .ref v :: .int j :: .ref a :: r => if am_ra (am_k a) = some (am_k v) ∧ am_P ≤ am_i a ∧ ¬ (j < 0 ∨ am_n a ≤ j.toNatClampNeg) then am_nx (pc + 1) ls r (am_p h a j.toNatClampNeg (.ref v)) else none
    | _ => none)
  | .arraylength => am_w n 1 (match st with
    | .ref a :: r => if 40 ≤ am_k a ∧ am_k a < 50 then am_nx (pc + 1) ls (.int (Int32.ofNat (am_n a)) :: r) h else none
    | _ => none)
  | .newarray .int => am_w n 2 (am_mk 40 (.int 0) (pc + 2) ls st h)
  | .newarray .byte => am_w n 2 (am_mk 41 (.int 0) (pc + 2) ls st h)
  | .newarray .short => am_w n 2 (am_mk 42 (.int 0) (pc + 2) ls st h)
  | .newarray .long => am_w n 2 (am_mk 43 (.long 0) (pc + 2) ls st h)
  | .anewarray x => am_w n 3 (match am_an (am_own m) x with
    | some k => am_mk k .null (pc + 3) ls st h
    | none => none)
  | .new x => am_w n 3 (match am_nw (am_own m) x with
    | some c => am_nx (pc + 3) ls (.ref (am_a h.1 0 c) :: st) (am_new h (am_a h.1 0 c) (am_sl0 c) (fun k => defaultValue (am_ty c k)))
    | none => none)
  | .checkcast x => am_w n 3 (match st, am_cc (am_own m) x with
    | .ref a :: r, some c => if am_k a = c then am_nx (pc + 3) ls (.ref a :: r) h else none
    | _, _ => none)
  | .instanceof x => am_w n 3 (match st, am_cc (am_own m) x with
    | .ref a :: r, some c => if am_k a = c then am_nx (pc + 3) ls (.int 1 :: r) h else none
    | _, _ => none)
  | _ => none
def am_cat (st : List Value) : Nat := (st.map fun v => v.category).sum
def am_call (f : Nat) (as : List Value) (pc : Nat) (ls : am_L) (r : List Value) (h : am_H) : am_O := if am_cat r ≤ 8 then some (.inr (.inr (f, as, pc, ls, r, h))) else none
/-- calls of methods of instances: the receiver's kind is the method's own -/
def am_vir (f : Nat) (pc : Nat) (ls : am_L) (st : List Value) (h : am_H) : am_O := match st.drop (am_ar f) with
  | .ref b :: r => if am_ar f ≤ st.length ∧ am_k b = am_own f then am_call f (.ref b :: (st.take (am_ar f)).reverse) pc ls r h else none
  | _ => none
def am_s7 (m : Nat) (i : Instr) (n pc : Nat) (ls : am_L) (st : List Value) (h : am_H) : am_O := match i with
  | .invokevirtual x => am_w n 3 (match am_ml (am_own m) x with
    | some (f, k) => if k = 0 ∨ (k = 3 ∧ am_hh f = false) then am_vir f (pc + 3) ls st h else none
    | none => none)
  | .invokestatic x => am_w n 3 (match am_ml (am_own m) x with
    | some (f, k) => if k = 7 then (match st with
        | .int c :: .int dp :: .ref b :: .int sp :: .ref a :: r => if am_k a = 41 ∧ am_k b = 41 ∧ a ≠ b ∧ am_P ≤ am_i b ∧ ¬ sp < 0 ∧ ¬ dp < 0 ∧ ¬ c < 0 ∧ sp.toNatClampNeg + c.toNatClampNeg ≤ am_n a ∧ dp.toNatClampNeg + c.toNatClampNeg ≤ am_n b ∧ am_cat r ≤ 8 then
            am_nx (pc + 3) ls r (am_copy h a b sp.toNatClampNeg dp.toNatClampNeg c.toNatClampNeg) else none
        | _ => none)
      else if k = 9 then (match st with
        | .int y :: .int x :: r => if am_cat r ≤ 8 then am_nx (pc + 3) ls (.int (if x < y then y else x) :: r) h else none
        | _ => none)
      else if k = 10 then (match st with
        | .int y :: .int x :: r => if am_cat r ≤ 8 then am_nx (pc + 3) ls (.int (if y < x then y else x) :: r) h else none
        | _ => none)
      else if k = 11 then (match st with
        | .int x :: r => if am_cat r ≤ 8 then am_nx (pc + 3) ls (.int (if 0 ≤ x then x else 0 - x) :: r) h else none
        | _ => none)
      else if (k = 1 ∨ k = 4) ∧ am_hh f = false ∧ am_ar f ≤ st.length then am_call f (st.take (am_ar f)).reverse (pc + 3) ls (st.drop (am_ar f)) h else none
    | none => none)
  | .invokespecial x => am_w n 3 (match am_ml (am_own m) x with
    | some (f, k) => if k = 6 then (match st with
        | .ref a :: r => if am_cat r ≤ 8 ∧ am_real a = true then am_nx (pc + 3) ls r h else none
        | _ => none)
      else if (k = 2 ∨ k = 5) ∧ am_hh f = false then (match st.drop (am_ar f) with
        | .ref b :: r => if am_ar f ≤ st.length ∧ am_real b = true then am_call f (.ref b :: (st.take (am_ar f)).reverse) (pc + 3) ls r h else none
        | _ => none)
      else none
    | none => none)
  | .invokeinterface x c => am_w n 5 (match am_ml (am_own m) x with
    | some (f, k) => if k = 8 ∧ am_hh f = false ∧ am_own f = 12 then am_vir f (pc + 5) ls st h else none
    | none => none)
  | _ => none
/-- ends -/
def am_s8 (m : Nat) (i : Instr) (n : Nat) (st : List Value) (h : am_H) : am_O := match i with
  | .return_ => am_w n 1 (match st, am_rt m with
    | [], none => am_ret none h
    | _, _ => none)
  | .ireturn => am_w n 1 (match st, am_rt m with
    | [.int v], some ty => if narrow ty (.int v) = .int v then am_ret (some (.int v)) h else none
    | _, _ => none)
  | .lreturn => am_w n 1 (match st, am_rt m with
    | [.long v], some .long => am_ret (some (.long v)) h
    | _, _ => none)
  | .areturn => am_w n 1 (match st, am_rt m with
    | [.ref v], some (.object _) => am_ret (some (.ref v)) h
    | [.ref v], some (.array _) => am_ret (some (.ref v)) h
    | [.null], some (.object _) => am_ret (some .null) h
    | [.null], some (.array _) => am_ret (some .null) h
    | _, _ => none)
  | _ => none
/-- one instruction -/
def am_s (m pc : Nat) (ls : am_L) (st : List Value) (h : am_H) : am_O := match am_ins m pc with
  | none => none
  | some (i, n) => (am_s1 i n pc ls st h).or ((am_s2 i n pc ls st h).or ((am_s3 i n pc ls st h).or ((am_s4 i n pc ls st h).or ((am_s5 m i n pc ls st h).or ((am_s6 m i n pc ls st h).or ((am_s7 m i n pc ls st h).or (am_s8 m i n st h)))))))
/-- a run of at most n instructions, calls by c -/
def am_run (c : Nat → List Value → am_H → Option am_R) : Nat → Nat → Nat → am_L → List Value → am_H → Option am_R
  | 0, _, _, _, _, _ => none
  | n + 1, m, pc, ls, st, h => match am_s m pc ls st h with
    | none => none
    | some (.inl (pc', ls', st', h')) => am_run c n m pc' ls' st' h'
    | some (.inr (.inl r)) => some r
    | some (.inr (.inr (f, as, pc', ls', st', h'))) => match c f as h' with
      | none => none
      | some (v, h'') => am_run c n m pc' ls' (v.toList ++ st') h''
/-- what a row that comes to an answer comes to -/
noncomputable def am_lim {α : Type} (f : Nat → Option α) : Option α := @dite (Option α) (∃ n, (f n).isSome = true) (Classical.propDecidable _) (fun h => f (Classical.choose h)) (fun _ => none)
def am_args : List Value → am_L
  | [] => []
  | v :: vs => if v.category = 2 then some v :: some (.retAddr 0) :: am_args vs else some v :: am_args vs
def am_ent (n : Nat) (as : List Value) : am_L := am_args as ++ List.replicate (n - (am_args as).length) none
/-- a method: d frames deep at most -/
noncomputable def am_M : Nat → Nat → List Value → am_H → Option am_R
  | 0, _, _, _ => none
  | d + 1, m, as, h => if (am_args as).length ≤ am_mxl m then am_lim (fun n => am_run (am_M d) n m 0 (am_ent (am_mxl m) as) [] h) else none
noncomputable def am_G (d m pc : Nat) (ls : am_L) (st : List Value) (h : am_H) : Option am_R := am_lim (fun n => am_run (am_M d) n m pc ls st h)
/-! what a limit is -/
theorem am_lim_some {α : Type} {f : Nat → Option α} {x : α} (h : am_lim f = some x) : ∃ n, f n = some x := by
  unfold am_lim at h
  split at h
  · exact ⟨_, h⟩
  · cases h
def am_mono {α : Type} (f : Nat → Option α) : Prop := ∀ n x, f n = some x → f (n + 1) = some x
theorem am_mono_le {α : Type} {f : Nat → Option α} (hf : am_mono f) {n k : Nat} {x : α} (hk : n ≤ k) (h : f n = some x) : f k = some x := by
  induction hk with
  | refl => exact h
  | step _ ih => exact hf _ _ ih
theorem am_lim_eq {α : Type} {f : Nat → Option α} (hf : am_mono f) {n : Nat} {x : α} (h : f n = some x) : am_lim f = some x := by
  have he : ∃ n, (f n).isSome = true := ⟨n, by rw [h]; rfl⟩
  unfold am_lim
  rw [dif_pos he]
  have h2 := Classical.choose_spec he
  obtain ⟨y, hy⟩ := Option.isSome_iff_exists.mp h2
  rw [hy]
  rcases Nat.le_total n (Classical.choose he) with q | q
  · have := am_mono_le hf q h
    rw [hy] at this
    exact this
  · have := am_mono_le hf q hy
    rw [h] at this
    exact this.symm
theorem am_lim_congr {α : Type} {f g : Nat → Option α} (hf : am_mono f) (hg : am_mono g) (h : ∀ n, f (n + 1) = g n) : am_lim f = am_lim g := by
  cases e : am_lim g with
  | some x =>
    obtain ⟨n, hn⟩ := am_lim_some e
    exact am_lim_eq hf (n := n + 1) (by rw [h]; exact hn)
  | none =>
    cases e2 : am_lim f with
    | none => rfl
    | some x =>
      obtain ⟨n, hn⟩ := am_lim_some e2
      have h3 : f (n + 1) = some x := hf _ _ hn
      rw [h] at h3
      rw [am_lim_eq hg h3] at e
      cases e
theorem am_run_mono (c : Nat → List Value → am_H → Option am_R) : ∀ (n m pc : Nat) (ls : am_L) (st : List Value) (h : am_H) (x : am_R), am_run c n m pc ls st h = some x → am_run c (n + 1) m pc ls st h = some x := by
  intro n
  induction n with
  | zero => intro m pc ls st h x e; simp [am_run] at e
  | succ n ih =>
    intro m pc ls st h x e
    rw [am_run] at e ⊢
    split at e
    · cases e
    · exact ih _ _ _ _ _ _ e
    · exact e
    · split at e
      · cases e
      · exact ih _ _ _ _ _ _ e
theorem am_G_mono (d m pc : Nat) (ls : am_L) (st : List Value) (h : am_H) : am_mono (fun n => am_run (am_M d) n m pc ls st h) := fun n x e => am_run_mono _ n m pc ls st h x e
theorem am_M_G (d m : Nat) (as : List Value) (h : am_H) (hl : (am_args as).length ≤ am_mxl m) : am_M (d + 1) m as h = am_G d m 0 (am_ent (am_mxl m) as) [] h := by
  rw [am_M, if_pos hl]
  rfl
theorem am_next {d m pc pc' : Nat} {ls ls' : am_L} {st st' : List Value} {h h' : am_H} (e : am_s m pc ls st h = some (.inl (pc', ls', st', h'))) : am_G d m pc ls st h = am_G d m pc' ls' st' h' :=
  am_lim_congr (am_G_mono _ _ _ _ _ _) (am_G_mono _ _ _ _ _ _) (fun n => by rw [am_run, e])
theorem am_end {d m pc : Nat} {ls : am_L} {st : List Value} {h : am_H} {r : am_R} (e : am_s m pc ls st h = some (.inr (.inl r))) : am_G d m pc ls st h = some r :=
  am_lim_eq (am_G_mono d m pc ls st h) (n := 1) (by rw [am_run, e])
/-- a call, and what comes behind it -/
noncomputable def am_then (x : Option am_R) (k : Option Value → am_H → Option am_R) : Option am_R := match x with
  | none => none
  | some (v, h) => k v h
theorem am_then_some (v : Option Value) (h : am_H) (k : Option Value → am_H → Option am_R) : am_then (some (v, h)) k = k v h := rfl
theorem am_calls {d m pc f pc' : Nat} {as : List Value} {ls ls' : am_L} {st st' : List Value} {h h' : am_H} (e : am_s m pc ls st h = some (.inr (.inr (f, as, pc', ls', st', h')))) : am_G d m pc ls st h = am_then (am_M d f as h') (fun v h2 => am_G d m pc' ls' (v.toList ++ st') h2) := by
  cases q : am_M d f as h' with
  | none =>
    show am_lim _ = none
    cases e2 : am_lim (fun n => am_run (am_M d) n m pc ls st h) with
    | none => rfl
    | some x =>
      obtain ⟨n, hn⟩ := am_lim_some e2
      cases n with
      | zero => simp [am_run] at hn
      | succ n => simp [am_run, e, q] at hn
  | some x =>
    obtain ⟨v, h2⟩ := x
    exact am_lim_congr (am_G_mono _ _ _ _ _ _) (am_G_mono _ _ _ _ _ _) (fun n => by rw [am_run, e]; simp only [q])
