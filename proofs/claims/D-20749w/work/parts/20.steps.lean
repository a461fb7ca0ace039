/-! STEPS of the abstract machine, an opcode a row (i: the instruction at the place) -/
theorem az_ins {m pc n : Nat} {cc : ByteArray} {i : Instr} (hc : am_code m = cc) (hd : decode cc pc = .ok (i, n)) : am_ins m pc = some (i, n) := by
  unfold am_ins
  rw [hc, hd]
section AZ
variable {d m pc : Nat} {ls : am_L} {st r : List Value} {h : am_H}
theorem az_aconst_null (i : am_ins m pc = some (.aconst_null, 1)) : am_G d m pc ls st h = am_G d m (pc + 1) ls (.null :: st) h := am_next (by
  unfold am_s
  rw [i]
  rfl)
theorem az_iconst {k : Int} {v : Int32} (i : am_ins m pc = some (.iconst k, 1)) (hv : Int32.ofInt k = v) : am_G d m pc ls st h = am_G d m (pc + 1) ls (.int v :: st) h := am_next (by
  unfold am_s
  rw [i]
  rw [← hv]; rfl)
theorem az_bipush {k : Int} {v : Int32} (i : am_ins m pc = some (.bipush k, 2)) (hv : (Int8.ofInt k).toInt32 = v) : am_G d m pc ls st h = am_G d m (pc + 2) ls (.int v :: st) h := am_next (by
  unfold am_s
  rw [i]
  rw [← hv]; rfl)
theorem az_sipush {k : Int} {v : Int32} (i : am_ins m pc = some (.sipush k, 3)) (hv : (Int16.ofInt k).toInt32 = v) : am_G d m pc ls st h = am_G d m (pc + 3) ls (.int v :: st) h := am_next (by
  unfold am_s
  rw [i]
  rw [← hv]; rfl)
theorem az_lconst {k : Fin 2} {v : Int64} (i : am_ins m pc = some (.lconst k, 1)) (hv : Int64.ofNat (k : Nat) = v) : am_G d m pc ls st h = am_G d m (pc + 1) ls (.long v :: st) h := am_next (by
  unfold am_s
  rw [i]
  rw [← hv]; rfl)
theorem az_iload_n {k : Fin 4} {j : Nat} {x : Int32} (i : am_ins m pc = some (.iload_n k, 1)) (hj : (k : Nat) = j) (hl : ls[j]? = some (some (.int x))) : am_G d m pc ls st h = am_G d m (pc + 1) ls ((.int x) :: st) h := am_next (by
  subst hj
  unfold am_s
  rw [i]
  show (am_w 1 1 (am_li ls k (pc + 1) st h)).or _ = _
  rw [am_w, if_pos rfl]
  unfold am_li
  rw [hl]
  rfl)
theorem az_iload {k : Nat} {j : Nat} {x : Int32} (i : am_ins m pc = some (.iload k, 2)) (hj : (k : Nat) = j) (hl : ls[j]? = some (some (.int x))) : am_G d m pc ls st h = am_G d m (pc + 2) ls ((.int x) :: st) h := am_next (by
  subst hj
  unfold am_s
  rw [i]
  show (am_w 2 2 (am_li ls k (pc + 2) st h)).or _ = _
  rw [am_w, if_pos rfl]
  unfold am_li
  rw [hl]
  rfl)
theorem az_aload_n {k : Fin 4} {j : Nat} {x : Nat} (i : am_ins m pc = some (.aload_n k, 1)) (hj : (k : Nat) = j) (hl : ls[j]? = some (some (.ref x))) : am_G d m pc ls st h = am_G d m (pc + 1) ls ((.ref x) :: st) h := am_next (by
  subst hj
  unfold am_s
  rw [i]
  show (am_w 1 1 (am_la ls k (pc + 1) st h)).or _ = _
  rw [am_w, if_pos rfl]
  unfold am_la
  rw [hl]
  rfl)
theorem az_aload {k : Nat} {j : Nat} {x : Nat} (i : am_ins m pc = some (.aload k, 2)) (hj : (k : Nat) = j) (hl : ls[j]? = some (some (.ref x))) : am_G d m pc ls st h = am_G d m (pc + 2) ls ((.ref x) :: st) h := am_next (by
  subst hj
  unfold am_s
  rw [i]
  show (am_w 2 2 (am_la ls k (pc + 2) st h)).or _ = _
  rw [am_w, if_pos rfl]
  unfold am_la
  rw [hl]
  rfl)
theorem az_aload_nN {k : Fin 4} {j : Nat} (i : am_ins m pc = some (.aload_n k, 1)) (hj : (k : Nat) = j) (hl : ls[j]? = some (some (.null))) : am_G d m pc ls st h = am_G d m (pc + 1) ls ((.null) :: st) h := am_next (by
  subst hj
  unfold am_s
  rw [i]
  show (am_w 1 1 (am_la ls k (pc + 1) st h)).or _ = _
  rw [am_w, if_pos rfl]
  unfold am_la
  rw [hl]
  rfl)
theorem az_aloadN {k : Nat} {j : Nat} (i : am_ins m pc = some (.aload k, 2)) (hj : (k : Nat) = j) (hl : ls[j]? = some (some (.null))) : am_G d m pc ls st h = am_G d m (pc + 2) ls ((.null) :: st) h := am_next (by
  subst hj
  unfold am_s
  rw [i]
  show (am_w 2 2 (am_la ls k (pc + 2) st h)).or _ = _
  rw [am_w, if_pos rfl]
  unfold am_la
  rw [hl]
  rfl)
theorem az_lload_n {k : Fin 4} {j : Nat} {x : Int64} (i : am_ins m pc = some (.lload_n k, 1)) (hj : (k : Nat) = j) (hl : ls[j]? = some (some (.long x))) (hl2 : ls[(k : Nat) + 1]? = some (some (.retAddr 0))) : am_G d m pc ls st h = am_G d m (pc + 1) ls ((.long x) :: st) h := am_next (by
  subst hj
  unfold am_s
  rw [i]
  show (am_w 1 1 (am_ll ls k (pc + 1) st h)).or _ = _
  rw [am_w, if_pos rfl]
  unfold am_ll
  rw [hl, hl2]
  rfl)
theorem az_lload {k : Nat} {j : Nat} {x : Int64} (i : am_ins m pc = some (.lload k, 2)) (hj : (k : Nat) = j) (hl : ls[j]? = some (some (.long x))) (hl2 : ls[k + 1]? = some (some (.retAddr 0))) : am_G d m pc ls st h = am_G d m (pc + 2) ls ((.long x) :: st) h := am_next (by
  subst hj
  unfold am_s
  rw [i]
  show (am_w 2 2 (am_ll ls k (pc + 2) st h)).or _ = _
  rw [am_w, if_pos rfl]
  unfold am_ll
  rw [hl, hl2]
  rfl)
theorem az_istore_n {k : Fin 4} {j : Nat} {ls2 : am_L} {x : Int32} (i : am_ins m pc = some (.istore_n k, 1)) (hj : (k : Nat) = j) (hk : j < ls.length) (h2 : ls.set j (some (.int x)) = ls2) : am_G d m pc ls ((.int x) :: r) h = am_G d m (pc + 1) ls2 r h := am_next (by
  subst hj
  subst h2
  unfold am_s
  rw [i]
  show (am_w 1 1 (am_si ls k (pc + 1) _ h)).or _ = _
  rw [am_w, if_pos rfl]
  unfold am_si
  dsimp only
  rw [if_pos hk]
  rfl)
theorem az_astore_n {k : Fin 4} {j : Nat} {ls2 : am_L} {x : Nat} (i : am_ins m pc = some (.astore_n k, 1)) (hj : (k : Nat) = j) (hk : j < ls.length) (h2 : ls.set j (some (.ref x)) = ls2) : am_G d m pc ls ((.ref x) :: r) h = am_G d m (pc + 1) ls2 r h := am_next (by
  subst hj
  subst h2
  unfold am_s
  rw [i]
  show (am_w 1 1 (am_sa ls k (pc + 1) _ h)).or _ = _
  rw [am_w, if_pos rfl]
  unfold am_sa
  dsimp only
  rw [if_pos hk]
  rfl)
theorem az_astore_nN {k : Fin 4} {j : Nat} {ls2 : am_L} (i : am_ins m pc = some (.astore_n k, 1)) (hj : (k : Nat) = j) (hk : j < ls.length) (h2 : ls.set j (some (.null)) = ls2) : am_G d m pc ls ((.null) :: r) h = am_G d m (pc + 1) ls2 r h := am_next (by
  subst hj
  subst h2
  unfold am_s
  rw [i]
  show (am_w 1 1 (am_sa ls k (pc + 1) _ h)).or _ = _
  rw [am_w, if_pos rfl]
  unfold am_sa
  dsimp only
  rw [if_pos hk]
  rfl)
theorem az_lstore_n {k : Fin 4} {j : Nat} {ls2 : am_L} {x : Int64} (i : am_ins m pc = some (.lstore_n k, 1)) (hj : (k : Nat) = j) (hk : j + 1 < ls.length) (h2 : (ls.set j (some (.long x))).set (j + 1) (some (.retAddr 0)) = ls2) : am_G d m pc ls ((.long x) :: r) h = am_G d m (pc + 1) ls2 r h := am_next (by
  subst hj
  subst h2
  unfold am_s
  rw [i]
  show (am_w 1 1 (am_sl ls k (pc + 1) _ h)).or _ = _
  rw [am_w, if_pos rfl]
  unfold am_sl
  dsimp only
  rw [if_pos hk]
  rfl)
theorem az_istore {k : Nat} {j : Nat} {ls2 : am_L} {x : Int32} (i : am_ins m pc = some (.istore k, 2)) (hj : (k : Nat) = j) (hk : j < ls.length) (h2 : ls.set j (some (.int x)) = ls2) : am_G d m pc ls ((.int x) :: r) h = am_G d m (pc + 2) ls2 r h := am_next (by
  subst hj
  subst h2
  unfold am_s
  rw [i]
  show (am_w 2 2 (am_si ls k (pc + 2) _ h)).or _ = _
  rw [am_w, if_pos rfl]
  unfold am_si
  dsimp only
  rw [if_pos hk]
  rfl)
theorem az_astore {k : Nat} {j : Nat} {ls2 : am_L} {x : Nat} (i : am_ins m pc = some (.astore k, 2)) (hj : (k : Nat) = j) (hk : j < ls.length) (h2 : ls.set j (some (.ref x)) = ls2) : am_G d m pc ls ((.ref x) :: r) h = am_G d m (pc + 2) ls2 r h := am_next (by
  subst hj
  subst h2
  unfold am_s
  rw [i]
  show (am_w 2 2 (am_sa ls k (pc + 2) _ h)).or _ = _
  rw [am_w, if_pos rfl]
  unfold am_sa
  dsimp only
  rw [if_pos hk]
  rfl)
theorem az_astoreN {k : Nat} {j : Nat} {ls2 : am_L} (i : am_ins m pc = some (.astore k, 2)) (hj : (k : Nat) = j) (hk : j < ls.length) (h2 : ls.set j (some (.null)) = ls2) : am_G d m pc ls ((.null) :: r) h = am_G d m (pc + 2) ls2 r h := am_next (by
  subst hj
  subst h2
  unfold am_s
  rw [i]
  show (am_w 2 2 (am_sa ls k (pc + 2) _ h)).or _ = _
  rw [am_w, if_pos rfl]
  unfold am_sa
  dsimp only
  rw [if_pos hk]
  rfl)
theorem az_lstore {k : Nat} {j : Nat} {ls2 : am_L} {x : Int64} (i : am_ins m pc = some (.lstore k, 2)) (hj : (k : Nat) = j) (hk : j + 1 < ls.length) (h2 : (ls.set j (some (.long x))).set (j + 1) (some (.retAddr 0)) = ls2) : am_G d m pc ls ((.long x) :: r) h = am_G d m (pc + 2) ls2 r h := am_next (by
  subst hj
  subst h2
  unfold am_s
  rw [i]
  show (am_w 2 2 (am_sl ls k (pc + 2) _ h)).or _ = _
  rw [am_w, if_pos rfl]
  unfold am_sl
  dsimp only
  rw [if_pos hk]
  rfl)
theorem az_iinc {k : Nat} {c : Int} {x v : Int32} {ls2 : am_L} (i : am_ins m pc = some (.iinc k c, 3)) (hl : ls[k]? = some (some (.int x))) (hv : x + Int32.ofInt c = v) (h2 : ls.set k (some (.int v)) = ls2) : am_G d m pc ls st h = am_G d m (pc + 3) ls2 st h := am_next (by
  subst hv
  subst h2
  unfold am_s
  rw [i]
  show (am_w 3 3 (am_inc ls k c (pc + 3) st h)).or _ = _
  rw [am_w, if_pos rfl]
  unfold am_inc
  rw [hl]
  rfl)
theorem az_dup {v : Value} (i : am_ins m pc = some (.dup, 1)) (hv : v.category = 1) : am_G d m pc ls (v :: r) h = am_G d m (pc + 1) ls (v :: v :: r) h := am_next (by
  unfold am_s
  rw [i]
  show (am_w 1 1 (if v.category = 1 then am_nx (pc + 1) ls (v :: v :: r) h else none)).or _ = _
  rw [am_w, if_pos rfl, if_pos hv]
  rfl)
theorem az_pop {v : Value} (i : am_ins m pc = some (.pop, 1)) (hv : v.category = 1) : am_G d m pc ls (v :: r) h = am_G d m (pc + 1) ls r h := am_next (by
  unfold am_s
  rw [i]
  show (am_w 1 1 (if v.category = 1 then am_nx (pc + 1) ls r h else none)).or _ = _
  rw [am_w, if_pos rfl, if_pos hv]
  rfl)
theorem az_iadd {x y : Int32} (i : am_ins m pc = some (.iadd, 1)) : am_G d m pc ls (.int y :: .int x :: r) h = am_G d m (pc + 1) ls (.int (x + y) :: r) h := am_next (by
  unfold am_s
  rw [i]
  rfl)
theorem az_isub {x y : Int32} (i : am_ins m pc = some (.isub, 1)) : am_G d m pc ls (.int y :: .int x :: r) h = am_G d m (pc + 1) ls (.int (x - y) :: r) h := am_next (by
  unfold am_s
  rw [i]
  rfl)
theorem az_imul {x y : Int32} (i : am_ins m pc = some (.imul, 1)) : am_G d m pc ls (.int y :: .int x :: r) h = am_G d m (pc + 1) ls (.int (x * y) :: r) h := am_next (by
  unfold am_s
  rw [i]
  rfl)
theorem az_iand {x y : Int32} (i : am_ins m pc = some (.iand, 1)) : am_G d m pc ls (.int y :: .int x :: r) h = am_G d m (pc + 1) ls (.int (x &&& y) :: r) h := am_next (by
  unfold am_s
  rw [i]
  rfl)
theorem az_ior {x y : Int32} (i : am_ins m pc = some (.ior, 1)) : am_G d m pc ls (.int y :: .int x :: r) h = am_G d m (pc + 1) ls (.int (x ||| y) :: r) h := am_next (by
  unfold am_s
  rw [i]
  rfl)
theorem az_ixor {x y : Int32} (i : am_ins m pc = some (.ixor, 1)) : am_G d m pc ls (.int y :: .int x :: r) h = am_G d m (pc + 1) ls (.int (x ^^^ y) :: r) h := am_next (by
  unfold am_s
  rw [i]
  rfl)
theorem az_ishl {x y : Int32} (i : am_ins m pc = some (.ishl, 1)) : am_G d m pc ls (.int y :: .int x :: r) h = am_G d m (pc + 1) ls (.int (x <<< (y &&& 31)) :: r) h := am_next (by
  unfold am_s
  rw [i]
  rfl)
theorem az_ishr {x y : Int32} (i : am_ins m pc = some (.ishr, 1)) : am_G d m pc ls (.int y :: .int x :: r) h = am_G d m (pc + 1) ls (.int (x >>> (y &&& 31)) :: r) h := am_next (by
  unfold am_s
  rw [i]
  rfl)
theorem az_iushr {x y : Int32} (i : am_ins m pc = some (.iushr, 1)) : am_G d m pc ls (.int y :: .int x :: r) h = am_G d m (pc + 1) ls (.int ((x.toUInt32 >>> (y.toUInt32 &&& Int32.toUInt32 31)).toInt32) :: r) h := am_next (by
  unfold am_s
  rw [i]
  rfl)
theorem az_idiv {x y : Int32} (i : am_ins m pc = some (.idiv, 1)) (hy : ¬ y = 0) : am_G d m pc ls (.int y :: .int x :: r) h = am_G d m (pc + 1) ls (.int (x / y) :: r) h := am_next (by
  unfold am_s
  rw [i]
  show (none : am_O).or ((am_w 1 1 (if y = 0 then none else am_nx (pc + 1) ls (.int (x / y) :: r) h)).or _) = _
  rw [am_w, if_pos rfl, if_neg hy]
  rfl)
theorem az_irem {x y : Int32} (i : am_ins m pc = some (.irem, 1)) (hy : ¬ y = 0) : am_G d m pc ls (.int y :: .int x :: r) h = am_G d m (pc + 1) ls (.int (x - x / y * y) :: r) h := am_next (by
  unfold am_s
  rw [i]
  show (none : am_O).or ((am_w 1 1 (if y = 0 then none else am_nx (pc + 1) ls (.int (x - x / y * y) :: r) h)).or _) = _
  rw [am_w, if_pos rfl, if_neg hy]
  rfl)
theorem az_ineg {x : Int32} (i : am_ins m pc = some (.ineg, 1)) : am_G d m pc ls (.int x :: r) h = am_G d m (pc + 1) ls (.int (-x) :: r) h := am_next (by
  unfold am_s
  rw [i]
  rfl)
theorem az_i2l {x : Int32} (i : am_ins m pc = some (.i2l, 1)) : am_G d m pc ls (.int x :: r) h = am_G d m (pc + 1) ls (.long x.toInt64 :: r) h := am_next (by
  unfold am_s
  rw [i]
  rfl)
theorem az_i2b {x : Int32} (i : am_ins m pc = some (.i2b, 1)) : am_G d m pc ls (.int x :: r) h = am_G d m (pc + 1) ls (.int x.toInt8.toInt32 :: r) h := am_next (by
  unfold am_s
  rw [i]
  rfl)
theorem az_i2s {x : Int32} (i : am_ins m pc = some (.i2s, 1)) : am_G d m pc ls (.int x :: r) h = am_G d m (pc + 1) ls (.int x.toInt16.toInt32 :: r) h := am_next (by
  unfold am_s
  rw [i]
  rfl)
theorem az_i2c {x : Int32} (i : am_ins m pc = some (.i2c, 1)) : am_G d m pc ls (.int x :: r) h = am_G d m (pc + 1) ls (.int (x.toUInt32 % 65536).toInt32 :: r) h := am_next (by
  unfold am_s
  rw [i]
  rfl)
theorem az_ladd {x y : Int64} (i : am_ins m pc = some (.ladd, 1)) : am_G d m pc ls (.long y :: .long x :: r) h = am_G d m (pc + 1) ls (.long (x + y) :: r) h := am_next (by
  unfold am_s
  rw [i]
  rfl)
theorem az_lsub {x y : Int64} (i : am_ins m pc = some (.lsub, 1)) : am_G d m pc ls (.long y :: .long x :: r) h = am_G d m (pc + 1) ls (.long (x - y) :: r) h := am_next (by
  unfold am_s
  rw [i]
  rfl)
theorem az_lmul {x y : Int64} (i : am_ins m pc = some (.lmul, 1)) : am_G d m pc ls (.long y :: .long x :: r) h = am_G d m (pc + 1) ls (.long (x * y) :: r) h := am_next (by
  unfold am_s
  rw [i]
  rfl)
theorem az_land {x y : Int64} (i : am_ins m pc = some (.land, 1)) : am_G d m pc ls (.long y :: .long x :: r) h = am_G d m (pc + 1) ls (.long (x &&& y) :: r) h := am_next (by
  unfold am_s
  rw [i]
  rfl)
theorem az_lor {x y : Int64} (i : am_ins m pc = some (.lor, 1)) : am_G d m pc ls (.long y :: .long x :: r) h = am_G d m (pc + 1) ls (.long (x ||| y) :: r) h := am_next (by
  unfold am_s
  rw [i]
  rfl)
theorem az_lcmp {x y : Int64} (i : am_ins m pc = some (.lcmp, 1)) : am_G d m pc ls (.long y :: .long x :: r) h = am_G d m (pc + 1) ls (.int (lg_cmp x y) :: r) h := am_next (by
  unfold am_s
  rw [i]
  rfl)
theorem az_lshl {x : Int64} {y : Int32} (i : am_ins m pc = some (.lshl, 1)) : am_G d m pc ls (.int y :: .long x :: r) h = am_G d m (pc + 1) ls (.long (x <<< (y.toInt64 &&& 63)) :: r) h := am_next (by
  unfold am_s
  rw [i]
  rfl)
theorem az_lshr {x : Int64} {y : Int32} (i : am_ins m pc = some (.lshr, 1)) : am_G d m pc ls (.int y :: .long x :: r) h = am_G d m (pc + 1) ls (.long (x >>> (y.toInt64 &&& 63)) :: r) h := am_next (by
  unfold am_s
  rw [i]
  rfl)
theorem az_ldiv {x y : Int64} (i : am_ins m pc = some (.ldiv, 1)) (hy : ¬ y = 0) : am_G d m pc ls (.long y :: .long x :: r) h = am_G d m (pc + 1) ls (.long (x / y) :: r) h := am_next (by
  unfold am_s
  rw [i]
  show (none : am_O).or ((none : am_O).or ((am_w 1 1 (if y = 0 then none else am_nx (pc + 1) ls (.long (x / y) :: r) h)).or _)) = _
  rw [am_w, if_pos rfl, if_neg hy]
  rfl)
theorem az_lrem {x y : Int64} (i : am_ins m pc = some (.lrem, 1)) (hy : ¬ y = 0) : am_G d m pc ls (.long y :: .long x :: r) h = am_G d m (pc + 1) ls (.long (x - x / y * y) :: r) h := am_next (by
  unfold am_s
  rw [i]
  show (none : am_O).or ((none : am_O).or ((am_w 1 1 (if y = 0 then none else am_nx (pc + 1) ls (.long (x - x / y * y) :: r) h)).or _)) = _
  rw [am_w, if_pos rfl, if_neg hy]
  rfl)
theorem az_lneg {x : Int64} (i : am_ins m pc = some (.lneg, 1)) : am_G d m pc ls (.long x :: r) h = am_G d m (pc + 1) ls (.long (-x) :: r) h := am_next (by
  unfold am_s
  rw [i]
  rfl)
theorem az_l2i {x : Int64} (i : am_ins m pc = some (.l2i, 1)) : am_G d m pc ls (.long x :: r) h = am_G d m (pc + 1) ls (.int x.toInt32 :: r) h := am_next (by
  unfold am_s
  rw [i]
  rfl)
theorem az_br {b : Prop} {db : Decidable b} {off : Int} {t : Nat} {st0 : List Value} (E : am_s m pc ls st0 h = am_br b pc off ls r h) (ht : (pc : Int) + off = (t : Int)) : am_G d m pc ls st0 h = if b then am_G d m t ls r h else am_G d m (pc + 3) ls r h := by
  have h0 : 0 ≤ (pc : Int) + off := by rw [ht]; exact Int.natCast_nonneg t
  have h1 : ((pc : Int) + off).toNat = t := by rw [ht]; exact Int.toNat_natCast t
  by_cases hb : b
  · rw [if_pos hb]
    refine am_next (E.trans ?_)
    unfold am_br
    rw [if_pos h0, if_pos hb, h1]
    rfl
  · rw [if_neg hb]
    refine am_next (E.trans ?_)
    unfold am_br
    rw [if_pos h0, if_neg hb]
    rfl
theorem am_or_r (x : am_O) (p q : am_O) : (none : am_O).or ((none : am_O).or ((none : am_O).or (x.or none))) = x := by
  cases x <;> rfl
theorem am_s_4 {i : Instr} {n : Nat} (hi : am_ins m pc = some (i, n)) (h1 : am_s1 i n pc ls st h = none) (h2 : am_s2 i n pc ls st h = none) (h3 : am_s3 i n pc ls st h = none) (h5 : am_s5 m i n pc ls st h = none) (h6 : am_s6 m i n pc ls st h = none) (h7 : am_s7 m i n pc ls st h = none) (h8 : am_s8 m i n st h = none) : am_s m pc ls st h = am_s4 i n pc ls st h := by
  unfold am_s
  rw [hi]
  dsimp only
  rw [h1, h2, h3, h5, h6, h7, h8]
  cases am_s4 i n pc ls st h <;> rfl
theorem az_if_eq {x : Int32} {off : Int} {t : Nat} (i : am_ins m pc = some (.ifCond .eq off, 3)) (ht : (pc : Int) + off = (t : Int)) : am_G d m pc ls (.int x :: r) h = if x = 0 then am_G d m t ls r h else am_G d m (pc + 3) ls r h := by
  have E : am_s m pc ls (.int x :: r) h = am_br (x = 0) pc off ls r h := (am_s_4 i rfl rfl rfl rfl rfl rfl rfl).trans (by show am_w 3 3 _ = _; rw [am_w, if_pos rfl]; rfl)
  exact az_br E ht
theorem az_if_ne {x : Int32} {off : Int} {t : Nat} (i : am_ins m pc = some (.ifCond .ne off, 3)) (ht : (pc : Int) + off = (t : Int)) : am_G d m pc ls (.int x :: r) h = if x = 0 then am_G d m (pc + 3) ls r h else am_G d m t ls r h := by
  have E : am_s m pc ls (.int x :: r) h = am_br (¬ x = 0) pc off ls r h := (am_s_4 i rfl rfl rfl rfl rfl rfl rfl).trans (by show am_w 3 3 _ = _; rw [am_w, if_pos rfl]; rfl)
  rw [az_br E ht]
  by_cases hb : x = 0
  · rw [if_neg (fun q => q hb), if_pos hb]
  · rw [if_pos hb, if_neg hb]
theorem az_if_lt {x : Int32} {off : Int} {t : Nat} (i : am_ins m pc = some (.ifCond .lt off, 3)) (ht : (pc : Int) + off = (t : Int)) : am_G d m pc ls (.int x :: r) h = if x < 0 then am_G d m t ls r h else am_G d m (pc + 3) ls r h := by
  have E : am_s m pc ls (.int x :: r) h = am_br (x < 0) pc off ls r h := (am_s_4 i rfl rfl rfl rfl rfl rfl rfl).trans (by show am_w 3 3 _ = _; rw [am_w, if_pos rfl]; rfl)
  exact az_br E ht
theorem az_if_ge {x : Int32} {off : Int} {t : Nat} (i : am_ins m pc = some (.ifCond .ge off, 3)) (ht : (pc : Int) + off = (t : Int)) : am_G d m pc ls (.int x :: r) h = if 0 ≤ x then am_G d m t ls r h else am_G d m (pc + 3) ls r h := by
  have E : am_s m pc ls (.int x :: r) h = am_br (0 ≤ x) pc off ls r h := (am_s_4 i rfl rfl rfl rfl rfl rfl rfl).trans (by show am_w 3 3 _ = _; rw [am_w, if_pos rfl]; rfl)
  exact az_br E ht
theorem az_if_gt {x : Int32} {off : Int} {t : Nat} (i : am_ins m pc = some (.ifCond .gt off, 3)) (ht : (pc : Int) + off = (t : Int)) : am_G d m pc ls (.int x :: r) h = if 0 < x then am_G d m t ls r h else am_G d m (pc + 3) ls r h := by
  have E : am_s m pc ls (.int x :: r) h = am_br (0 < x) pc off ls r h := (am_s_4 i rfl rfl rfl rfl rfl rfl rfl).trans (by show am_w 3 3 _ = _; rw [am_w, if_pos rfl]; rfl)
  exact az_br E ht
theorem az_if_le {x : Int32} {off : Int} {t : Nat} (i : am_ins m pc = some (.ifCond .le off, 3)) (ht : (pc : Int) + off = (t : Int)) : am_G d m pc ls (.int x :: r) h = if x ≤ 0 then am_G d m t ls r h else am_G d m (pc + 3) ls r h := by
  have E : am_s m pc ls (.int x :: r) h = am_br (x ≤ 0) pc off ls r h := (am_s_4 i rfl rfl rfl rfl rfl rfl rfl).trans (by show am_w 3 3 _ = _; rw [am_w, if_pos rfl]; rfl)
  exact az_br E ht
theorem az_icmp_eq {x y : Int32} {off : Int} {t : Nat} (i : am_ins m pc = some (.if_icmp .eq off, 3)) (ht : (pc : Int) + off = (t : Int)) : am_G d m pc ls (.int y :: .int x :: r) h = if x = y then am_G d m t ls r h else am_G d m (pc + 3) ls r h := by
  have E : am_s m pc ls (.int y :: .int x :: r) h = am_br (x = y) pc off ls r h := (am_s_4 i rfl rfl rfl rfl rfl rfl rfl).trans (by show am_w 3 3 _ = _; rw [am_w, if_pos rfl]; rfl)
  exact az_br E ht
theorem az_icmp_ne {x y : Int32} {off : Int} {t : Nat} (i : am_ins m pc = some (.if_icmp .ne off, 3)) (ht : (pc : Int) + off = (t : Int)) : am_G d m pc ls (.int y :: .int x :: r) h = if x = y then am_G d m (pc + 3) ls r h else am_G d m t ls r h := by
  have E : am_s m pc ls (.int y :: .int x :: r) h = am_br (¬ x = y) pc off ls r h := (am_s_4 i rfl rfl rfl rfl rfl rfl rfl).trans (by show am_w 3 3 _ = _; rw [am_w, if_pos rfl]; rfl)
  rw [az_br E ht]
  by_cases hb : x = y
  · rw [if_neg (fun q => q hb), if_pos hb]
  · rw [if_pos hb, if_neg hb]
theorem az_icmp_lt {x y : Int32} {off : Int} {t : Nat} (i : am_ins m pc = some (.if_icmp .lt off, 3)) (ht : (pc : Int) + off = (t : Int)) : am_G d m pc ls (.int y :: .int x :: r) h = if x < y then am_G d m t ls r h else am_G d m (pc + 3) ls r h := by
  have E : am_s m pc ls (.int y :: .int x :: r) h = am_br (x < y) pc off ls r h := (am_s_4 i rfl rfl rfl rfl rfl rfl rfl).trans (by show am_w 3 3 _ = _; rw [am_w, if_pos rfl]; rfl)
  exact az_br E ht
theorem az_icmp_ge {x y : Int32} {off : Int} {t : Nat} (i : am_ins m pc = some (.if_icmp .ge off, 3)) (ht : (pc : Int) + off = (t : Int)) : am_G d m pc ls (.int y :: .int x :: r) h = if y ≤ x then am_G d m t ls r h else am_G d m (pc + 3) ls r h := by
  have E : am_s m pc ls (.int y :: .int x :: r) h = am_br (y ≤ x) pc off ls r h := (am_s_4 i rfl rfl rfl rfl rfl rfl rfl).trans (by show am_w 3 3 _ = _; rw [am_w, if_pos rfl]; rfl)
  exact az_br E ht
theorem az_icmp_gt {x y : Int32} {off : Int} {t : Nat} (i : am_ins m pc = some (.if_icmp .gt off, 3)) (ht : (pc : Int) + off = (t : Int)) : am_G d m pc ls (.int y :: .int x :: r) h = if y < x then am_G d m t ls r h else am_G d m (pc + 3) ls r h := by
  have E : am_s m pc ls (.int y :: .int x :: r) h = am_br (y < x) pc off ls r h := (am_s_4 i rfl rfl rfl rfl rfl rfl rfl).trans (by show am_w 3 3 _ = _; rw [am_w, if_pos rfl]; rfl)
  exact az_br E ht
theorem az_icmp_le {x y : Int32} {off : Int} {t : Nat} (i : am_ins m pc = some (.if_icmp .le off, 3)) (ht : (pc : Int) + off = (t : Int)) : am_G d m pc ls (.int y :: .int x :: r) h = if x ≤ y then am_G d m t ls r h else am_G d m (pc + 3) ls r h := by
  have E : am_s m pc ls (.int y :: .int x :: r) h = am_br (x ≤ y) pc off ls r h := (am_s_4 i rfl rfl rfl rfl rfl rfl rfl).trans (by show am_w 3 3 _ = _; rw [am_w, if_pos rfl]; rfl)
  exact az_br E ht
theorem az_goto {off : Int} {t : Nat} (i : am_ins m pc = some (.goto off, 3)) (ht : (pc : Int) + off = (t : Int)) : am_G d m pc ls st h = am_G d m t ls st h := by
  refine am_next ((am_s_4 i rfl rfl rfl rfl rfl rfl rfl).trans ?_)
  show am_w 3 3 (am_go pc off ls st h) = _
  unfold am_w am_go
  rw [if_pos rfl, if_pos (by rw [ht]; exact Int.natCast_nonneg t), ht, Int.toNat_natCast]
theorem az_ifnullR {a : Nat} {off : Int} {t : Nat} (i : am_ins m pc = some (.ifnull off, 3)) (ht : (pc : Int) + off = (t : Int)) (ha : am_real a = true) : am_G d m pc ls (.ref a :: r) h = am_G d m (pc + 3) ls r h := by
  have E : am_s m pc ls (.ref a :: r) h = am_br (false = true) pc off ls r h := (am_s_4 i rfl rfl rfl rfl rfl rfl rfl).trans (by show am_w 3 3 (am_ifn false pc off ls _ h) = _; rw [am_w, if_pos rfl]; unfold am_ifn; dsimp only; rw [if_pos ha])
  rw [az_br E ht]
  exact if_neg (by decide)
theorem az_ifnullN {off : Int} {t : Nat} (i : am_ins m pc = some (.ifnull off, 3)) (ht : (pc : Int) + off = (t : Int)) : am_G d m pc ls (.null :: r) h = am_G d m t ls r h := by
  have E : am_s m pc ls (.null :: r) h = am_br (false = false) pc off ls r h := (am_s_4 i rfl rfl rfl rfl rfl rfl rfl).trans (by show am_w 3 3 (am_ifn false pc off ls _ h) = _; rw [am_w, if_pos rfl]; unfold am_ifn; dsimp only)
  rw [az_br E ht]
  exact if_pos (by decide)
theorem az_ifnonnullR {a : Nat} {off : Int} {t : Nat} (i : am_ins m pc = some (.ifnonnull off, 3)) (ht : (pc : Int) + off = (t : Int)) (ha : am_real a = true) : am_G d m pc ls (.ref a :: r) h = am_G d m t ls r h := by
  have E : am_s m pc ls (.ref a :: r) h = am_br (true = true) pc off ls r h := (am_s_4 i rfl rfl rfl rfl rfl rfl rfl).trans (by show am_w 3 3 (am_ifn true pc off ls _ h) = _; rw [am_w, if_pos rfl]; unfold am_ifn; dsimp only; rw [if_pos ha])
  rw [az_br E ht]
  exact if_pos (by decide)
theorem az_ifnonnullN {off : Int} {t : Nat} (i : am_ins m pc = some (.ifnonnull off, 3)) (ht : (pc : Int) + off = (t : Int)) : am_G d m pc ls (.null :: r) h = am_G d m (pc + 3) ls r h := by
  have E : am_s m pc ls (.null :: r) h = am_br (true = false) pc off ls r h := (am_s_4 i rfl rfl rfl rfl rfl rfl rfl).trans (by show am_w 3 3 (am_ifn true pc off ls _ h) = _; rw [am_w, if_pos rfl]; unfold am_ifn; dsimp only)
  rw [az_br E ht]
  exact if_neg (by decide)
theorem az_acmp_eq {a b : Nat} {off : Int} {t : Nat} (i : am_ins m pc = some (.if_acmp .eq off, 3)) (ht : (pc : Int) + off = (t : Int)) (hc : am_cmpok a b = true) : am_G d m pc ls (.ref b :: .ref a :: r) h = if a = b then am_G d m t ls r h else am_G d m (pc + 3) ls r h := by
  have E : am_s m pc ls (.ref b :: .ref a :: r) h = am_br ((decide (a = b) ^^ false) = true) pc off ls r h := (am_s_4 i rfl rfl rfl rfl rfl rfl rfl).trans (by show am_w 3 3 (am_acmp false pc off ls _ h) = _; rw [am_w, if_pos rfl]; unfold am_acmp; dsimp only; rw [if_pos hc])
  rw [az_br E ht]
  by_cases hb : a = b
  · rw [if_pos hb]; exact if_pos (by simp [hb])
  · rw [if_neg hb]; exact if_neg (by simp [hb])
theorem az_acmp_eqNR {a : Nat} {off : Int} {t : Nat} (i : am_ins m pc = some (.if_acmp .eq off, 3)) (ht : (pc : Int) + off = (t : Int)) (ha : am_real a = true) : am_G d m pc ls (.null :: .ref a :: r) h = am_G d m (pc + 3) ls r h := by
  have E : am_s m pc ls (.null :: .ref a :: r) h = am_br (false = true) pc off ls r h := (am_s_4 i rfl rfl rfl rfl rfl rfl rfl).trans (by show am_w 3 3 (am_acmp false pc off ls _ h) = _; rw [am_w, if_pos rfl]; unfold am_acmp; dsimp only; rw [if_pos ha])
  rw [az_br E ht]
  exact if_neg (by decide)
theorem az_acmp_eqRN {a : Nat} {off : Int} {t : Nat} (i : am_ins m pc = some (.if_acmp .eq off, 3)) (ht : (pc : Int) + off = (t : Int)) (ha : am_real a = true) : am_G d m pc ls (.ref a :: .null :: r) h = am_G d m (pc + 3) ls r h := by
  have E : am_s m pc ls (.ref a :: .null :: r) h = am_br (false = true) pc off ls r h := (am_s_4 i rfl rfl rfl rfl rfl rfl rfl).trans (by show am_w 3 3 (am_acmp false pc off ls _ h) = _; rw [am_w, if_pos rfl]; unfold am_acmp; dsimp only; rw [if_pos ha])
  rw [az_br E ht]
  exact if_neg (by decide)
theorem az_acmp_eqNN {off : Int} {t : Nat} (i : am_ins m pc = some (.if_acmp .eq off, 3)) (ht : (pc : Int) + off = (t : Int)) : am_G d m pc ls (.null :: .null :: r) h = am_G d m t ls r h := by
  have E : am_s m pc ls (.null :: .null :: r) h = am_br (false = false) pc off ls r h := (am_s_4 i rfl rfl rfl rfl rfl rfl rfl).trans (by show am_w 3 3 (am_acmp false pc off ls _ h) = _; rw [am_w, if_pos rfl]; unfold am_acmp; rfl)
  rw [az_br E ht]
  exact if_pos (by decide)
theorem az_acmp_ne {a b : Nat} {off : Int} {t : Nat} (i : am_ins m pc = some (.if_acmp .ne off, 3)) (ht : (pc : Int) + off = (t : Int)) (hc : am_cmpok a b = true) : am_G d m pc ls (.ref b :: .ref a :: r) h = if a = b then am_G d m (pc + 3) ls r h else am_G d m t ls r h := by
  have E : am_s m pc ls (.ref b :: .ref a :: r) h = am_br ((decide (a = b) ^^ true) = true) pc off ls r h := (am_s_4 i rfl rfl rfl rfl rfl rfl rfl).trans (by show am_w 3 3 (am_acmp true pc off ls _ h) = _; rw [am_w, if_pos rfl]; unfold am_acmp; dsimp only; rw [if_pos hc])
  rw [az_br E ht]
  by_cases hb : a = b
  · rw [if_pos hb]; exact if_neg (by simp [hb])
  · rw [if_neg hb]; exact if_pos (by simp [hb])
theorem az_acmp_neNR {a : Nat} {off : Int} {t : Nat} (i : am_ins m pc = some (.if_acmp .ne off, 3)) (ht : (pc : Int) + off = (t : Int)) (ha : am_real a = true) : am_G d m pc ls (.null :: .ref a :: r) h = am_G d m t ls r h := by
  have E : am_s m pc ls (.null :: .ref a :: r) h = am_br (true = true) pc off ls r h := (am_s_4 i rfl rfl rfl rfl rfl rfl rfl).trans (by show am_w 3 3 (am_acmp true pc off ls _ h) = _; rw [am_w, if_pos rfl]; unfold am_acmp; dsimp only; rw [if_pos ha])
  rw [az_br E ht]
  exact if_pos (by decide)
theorem az_acmp_neRN {a : Nat} {off : Int} {t : Nat} (i : am_ins m pc = some (.if_acmp .ne off, 3)) (ht : (pc : Int) + off = (t : Int)) (ha : am_real a = true) : am_G d m pc ls (.ref a :: .null :: r) h = am_G d m t ls r h := by
  have E : am_s m pc ls (.ref a :: .null :: r) h = am_br (true = true) pc off ls r h := (am_s_4 i rfl rfl rfl rfl rfl rfl rfl).trans (by show am_w 3 3 (am_acmp true pc off ls _ h) = _; rw [am_w, if_pos rfl]; unfold am_acmp; dsimp only; rw [if_pos ha])
  rw [az_br E ht]
  exact if_pos (by decide)
theorem az_acmp_neNN {off : Int} {t : Nat} (i : am_ins m pc = some (.if_acmp .ne off, 3)) (ht : (pc : Int) + off = (t : Int)) : am_G d m pc ls (.null :: .null :: r) h = am_G d m (pc + 3) ls r h := by
  have E : am_s m pc ls (.null :: .null :: r) h = am_br (true = false) pc off ls r h := (am_s_4 i rfl rfl rfl rfl rfl rfl rfl).trans (by show am_w 3 3 (am_acmp true pc off ls _ h) = _; rw [am_w, if_pos rfl]; unfold am_acmp; rfl)
  rw [az_br E ht]
  exact if_neg (by decide)
theorem az_tsw {dd lo hi : Int} {os : Array Int} {n : Nat} {x : Int32} {o : Int} {t : Nat} (i : am_ins m pc = some (.tableswitch dd lo hi os, n)) (ho : (if x.toInt < lo ∨ hi < x.toInt then some dd else os[(x.toInt - lo).toNat]?) = some o) (ht : (pc : Int) + o = (t : Int)) : am_G d m pc ls (.int x :: r) h = am_G d m t ls r h := by
  refine am_next ((am_s_4 i rfl rfl rfl rfl rfl rfl rfl).trans ?_)
  show am_tsw dd lo hi os pc ls (.int x :: r) h = _
  have hg : am_go pc o ls r h = some (.inl (t, ls, r, h)) := by
    unfold am_go
    rw [if_pos (by rw [ht]; exact Int.natCast_nonneg t), ht, Int.toNat_natCast]
  unfold am_tsw
  dsimp only
  split at ho
  · rename_i hc
    cases ho
    rw [if_pos hc]
    exact hg
  · rename_i hc
    rw [if_neg hc, ho]
    exact hg
theorem az_lsw {dd : Int} {ps : Array (Int × Int)} {n : Nat} {x : Int32} {o : Int} {t : Nat} (i : am_ins m pc = some (.lookupswitch dd ps, n)) (hp : (ps.toList.zip (ps.toList.drop 1)).all (fun (a, next) => a.1 < next.1) = true) (ho : Op.lookupswitch.offset ps.toList dd x.toInt = o) (ht : (pc : Int) + o = (t : Int)) : am_G d m pc ls (.int x :: r) h = am_G d m t ls r h := by
  refine am_next ((am_s_4 i rfl rfl rfl rfl rfl rfl rfl).trans ?_)
  show am_lsw dd ps pc ls (.int x :: r) h = _
  unfold am_lsw
  dsimp only
  rw [if_pos hp, ho]
  unfold am_go
  rw [if_pos (by rw [ht]; exact Int.natCast_nonneg t), ht, Int.toNat_natCast]
theorem am_s_5 {i : Instr} {n : Nat} (hi : am_ins m pc = some (i, n)) (h1 : am_s1 i n pc ls st h = none) (h2 : am_s2 i n pc ls st h = none) (h3 : am_s3 i n pc ls st h = none) (h4 : am_s4 i n pc ls st h = none) (h6 : am_s6 m i n pc ls st h = none) (h7 : am_s7 m i n pc ls st h = none) (h8 : am_s8 m i n st h = none) : am_s m pc ls st h = am_s5 m i n pc ls st h := by
  unfold am_s
  rw [hi]
  dsimp only
  rw [h1, h2, h3, h4, h6, h7, h8]
  cases am_s5 m i n pc ls st h <;> rfl
theorem am_s_6 {i : Instr} {n : Nat} (hi : am_ins m pc = some (i, n)) (h1 : am_s1 i n pc ls st h = none) (h2 : am_s2 i n pc ls st h = none) (h3 : am_s3 i n pc ls st h = none) (h4 : am_s4 i n pc ls st h = none) (h5 : am_s5 m i n pc ls st h = none) (h7 : am_s7 m i n pc ls st h = none) (h8 : am_s8 m i n st h = none) : am_s m pc ls st h = am_s6 m i n pc ls st h := by
  unfold am_s
  rw [hi]
  dsimp only
  rw [h1, h2, h3, h4, h5, h7, h8]
  cases am_s6 m i n pc ls st h <;> rfl
theorem am_s_7 {i : Instr} {n : Nat} (hi : am_ins m pc = some (i, n)) (h1 : am_s1 i n pc ls st h = none) (h2 : am_s2 i n pc ls st h = none) (h3 : am_s3 i n pc ls st h = none) (h4 : am_s4 i n pc ls st h = none) (h5 : am_s5 m i n pc ls st h = none) (h6 : am_s6 m i n pc ls st h = none) (h8 : am_s8 m i n st h = none) : am_s m pc ls st h = am_s7 m i n pc ls st h := by
  unfold am_s
  rw [hi]
  dsimp only
  rw [h1, h2, h3, h4, h5, h6, h8]
  cases am_s7 m i n pc ls st h <;> rfl
theorem am_s_8 {i : Instr} {n : Nat} (hi : am_ins m pc = some (i, n)) (h1 : am_s1 i n pc ls st h = none) (h2 : am_s2 i n pc ls st h = none) (h3 : am_s3 i n pc ls st h = none) (h4 : am_s4 i n pc ls st h = none) (h5 : am_s5 m i n pc ls st h = none) (h6 : am_s6 m i n pc ls st h = none) (h7 : am_s7 m i n pc ls st h = none) : am_s m pc ls st h = am_s8 m i n st h := by
  unfold am_s
  rw [hi]
  dsimp only
  rw [h1, h2, h3, h4, h5, h6, h7]
  cases am_s8 m i n st h <;> rfl
theorem az_getf {a c k x : Nat} (i : am_ins m pc = some (.getfield x, 3)) (hf : am_fl (am_own m) x = some (c, k)) (hk : am_k a = c) : am_G d m pc ls (.ref a :: r) h = am_G d m (pc + 3) ls (am_g h a k :: r) h := by
  refine am_next ((am_s_5 i rfl rfl rfl rfl rfl rfl rfl).trans ?_)
  show am_w 3 3 _ = _
  rw [am_w, if_pos rfl]
  simp only [hf]
  rw [if_pos hk]
  rfl
theorem az_putf {a c k x : Nat} {v : Value} (i : am_ins m pc = some (.putfield x, 3)) (hf : am_fl (am_own m) x = some (c, k)) (hfin : am_fin c k = true → am_isI m = true ∧ am_dcl c k = am_own m) (hv : am_fit (am_ty c k) v = true) (hk : am_k a = c ∧ am_P ≤ am_i a) : am_G d m pc ls (v :: .ref a :: r) h = am_G d m (pc + 3) ls r (am_p h a k v) := by
  refine am_next ((am_s_5 i rfl rfl rfl rfl rfl rfl rfl).trans ?_)
  show am_w 3 3 _ = _
  rw [am_w, if_pos rfl]
  simp only [hf]
  rw [if_pos ⟨hk.1, hv, hk.2, hfin⟩]
  rfl
theorem az_gets {x : Nat} {v : Value} (i : am_ins m pc = some (.getstatic x, 3)) (hf : am_st (am_own m) x = some v) : am_G d m pc ls st h = am_G d m (pc + 3) ls (v :: st) h := by
  refine am_next ((am_s_5 i rfl rfl rfl rfl rfl rfl rfl).trans ?_)
  show am_w 3 3 _ = _
  rw [am_w, if_pos rfl, hf]
  rfl
theorem az_ldcI {x : Nat} {v : Int32} (i : am_ins m pc = some (.ldc x, 2)) (hf : am_cn (am_own m) x = some (.int v)) : am_G d m pc ls st h = am_G d m (pc + 2) ls (.int v :: st) h := by
  refine am_next ((am_s_5 i rfl rfl rfl rfl rfl rfl rfl).trans ?_)
  show am_w 2 2 _ = _
  rw [am_w, if_pos rfl, hf]
  rfl
theorem az_ldcS {x v : Nat} (i : am_ins m pc = some (.ldc x, 2)) (hf : am_cn (am_own m) x = some (.ref v)) : am_G d m pc ls st h = am_G d m (pc + 2) ls (.ref v :: st) h := by
  refine am_next ((am_s_5 i rfl rfl rfl rfl rfl rfl rfl).trans ?_)
  show am_w 2 2 _ = _
  rw [am_w, if_pos rfl, hf]
  rfl
theorem az_ldcw {x : Nat} {v : Int32} (i : am_ins m pc = some (.ldc_w x, 3)) (hf : am_cn (am_own m) x = some (.int v)) : am_G d m pc ls st h = am_G d m (pc + 3) ls (.int v :: st) h := by
  refine am_next ((am_s_5 i rfl rfl rfl rfl rfl rfl rfl).trans ?_)
  show am_w 3 3 _ = _
  rw [am_w, if_pos rfl, hf]
  rfl
theorem az_ldcwS {x v : Nat} (i : am_ins m pc = some (.ldc_w x, 3)) (hf : am_cn (am_own m) x = some (.ref v)) : am_G d m pc ls st h = am_G d m (pc + 3) ls (.ref v :: st) h := by
  refine am_next ((am_s_5 i rfl rfl rfl rfl rfl rfl rfl).trans ?_)
  show am_w 3 3 _ = _
  rw [am_w, if_pos rfl, hf]
  rfl
theorem az_ldc2 {x : Nat} {v : Int64} (i : am_ins m pc = some (.ldc2_w x, 3)) (hf : am_cn (am_own m) x = some (.long v)) : am_G d m pc ls st h = am_G d m (pc + 3) ls (.long v :: st) h := by
  refine am_next ((am_s_5 i rfl rfl rfl rfl rfl rfl rfl).trans ?_)
  show am_w 3 3 _ = _
  rw [am_w, if_pos rfl, hf]
  rfl
theorem az_iald {a : Nat} {j : Int32} (i : am_ins m pc = some (.iaload, 1)) (hk : am_k a = 40) (hj : ¬ (j < 0 ∨ am_n a ≤ j.toNatClampNeg)) : am_G d m pc ls (.int j :: .ref a :: r) h = am_G d m (pc + 1) ls (am_g h a j.toNatClampNeg :: r) h := by
  refine am_next ((am_s_6 i rfl rfl rfl rfl rfl rfl rfl).trans ?_)
  show am_w 1 1 (am_ald (fun k => k == 40) pc ls (.int j :: .ref a :: r) h) = _
  rw [am_w, if_pos rfl]
  unfold am_ald
  dsimp only
  rw [if_pos ⟨by rw [hk]; rfl, hj⟩]
  rfl
theorem az_bald {a : Nat} {j : Int32} (i : am_ins m pc = some (.baload, 1)) (hk : am_k a = 41) (hj : ¬ (j < 0 ∨ am_n a ≤ j.toNatClampNeg)) : am_G d m pc ls (.int j :: .ref a :: r) h = am_G d m (pc + 1) ls (am_g h a j.toNatClampNeg :: r) h := by
  refine am_next ((am_s_6 i rfl rfl rfl rfl rfl rfl rfl).trans ?_)
  show am_w 1 1 (am_ald (fun k => k == 41) pc ls (.int j :: .ref a :: r) h) = _
  rw [am_w, if_pos rfl]
  unfold am_ald
  dsimp only
  rw [if_pos ⟨by rw [hk]; rfl, hj⟩]
  rfl
theorem az_sald {a : Nat} {j : Int32} (i : am_ins m pc = some (.saload, 1)) (hk : am_k a = 42) (hj : ¬ (j < 0 ∨ am_n a ≤ j.toNatClampNeg)) : am_G d m pc ls (.int j :: .ref a :: r) h = am_G d m (pc + 1) ls (am_g h a j.toNatClampNeg :: r) h := by
  refine am_next ((am_s_6 i rfl rfl rfl rfl rfl rfl rfl).trans ?_)
  show am_w 1 1 (am_ald (fun k => k == 42) pc ls (.int j :: .ref a :: r) h) = _
  rw [am_w, if_pos rfl]
  unfold am_ald
  dsimp only
  rw [if_pos ⟨by rw [hk]; rfl, hj⟩]
  rfl
theorem az_lald {a : Nat} {j : Int32} (i : am_ins m pc = some (.laload, 1)) (hk : am_k a = 43) (hj : ¬ (j < 0 ∨ am_n a ≤ j.toNatClampNeg)) : am_G d m pc ls (.int j :: .ref a :: r) h = am_G d m (pc + 1) ls (am_g h a j.toNatClampNeg :: r) h := by
  refine am_next ((am_s_6 i rfl rfl rfl rfl rfl rfl rfl).trans ?_)
  show am_w 1 1 (am_ald (fun k => k == 43) pc ls (.int j :: .ref a :: r) h) = _
  rw [am_w, if_pos rfl]
  unfold am_ald
  dsimp only
  rw [if_pos ⟨by rw [hk]; rfl, hj⟩]
  rfl
theorem az_aald {a : Nat} {j : Int32} (i : am_ins m pc = some (.aaload, 1)) (hk : 44 ≤ am_k a ∧ am_k a < 50) (hj : ¬ (j < 0 ∨ am_n a ≤ j.toNatClampNeg)) : am_G d m pc ls (.int j :: .ref a :: r) h = am_G d m (pc + 1) ls (am_g h a j.toNatClampNeg :: r) h := by
  refine am_next ((am_s_6 i rfl rfl rfl rfl rfl rfl rfl).trans ?_)
  show am_w 1 1 (am_ald (fun k => decide (44 ≤ k ∧ k < 50)) pc ls (.int j :: .ref a :: r) h) = _
  rw [am_w, if_pos rfl]
  unfold am_ald
  dsimp only
  rw [if_pos ⟨decide_eq_true hk, hj⟩]
  rfl
theorem az_iast {a : Nat} {j x : Int32} (i : am_ins m pc = some (.iastore, 1)) (hk : am_k a = 40 ∧ am_P ≤ am_i a) (hj : ¬ (j < 0 ∨ am_n a ≤ j.toNatClampNeg)) : am_G d m pc ls (.int x :: .int j :: .ref a :: r) h = am_G d m (pc + 1) ls r (am_p h a j.toNatClampNeg (.int (x))) := by
  refine am_next ((am_s_6 i rfl rfl rfl rfl rfl rfl rfl).trans ?_)
  show am_w 1 1 (am_ast 40 (fun x => x) pc ls (.int x :: .int j :: .ref a :: r) h) = _
  rw [am_w, if_pos rfl]
  unfold am_ast
  dsimp only
  rw [if_pos ⟨hk.1, hk.2, hj⟩]
  rfl
theorem az_bast {a : Nat} {j x : Int32} (i : am_ins m pc = some (.bastore, 1)) (hk : am_k a = 41 ∧ am_P ≤ am_i a) (hj : ¬ (j < 0 ∨ am_n a ≤ j.toNatClampNeg)) : am_G d m pc ls (.int x :: .int j :: .ref a :: r) h = am_G d m (pc + 1) ls r (am_p h a j.toNatClampNeg (.int (x.toInt8.toInt32))) := by
  refine am_next ((am_s_6 i rfl rfl rfl rfl rfl rfl rfl).trans ?_)
  show am_w 1 1 (am_ast 41 (fun x => x.toInt8.toInt32) pc ls (.int x :: .int j :: .ref a :: r) h) = _
  rw [am_w, if_pos rfl]
  unfold am_ast
  dsimp only
  rw [if_pos ⟨hk.1, hk.2, hj⟩]
  rfl
theorem az_sast {a : Nat} {j x : Int32} (i : am_ins m pc = some (.sastore, 1)) (hk : am_k a = 42 ∧ am_P ≤ am_i a) (hj : ¬ (j < 0 ∨ am_n a ≤ j.toNatClampNeg)) : am_G d m pc ls (.int x :: .int j :: .ref a :: r) h = am_G d m (pc + 1) ls r (am_p h a j.toNatClampNeg (.int (x.toInt16.toInt32))) := by
  refine am_next ((am_s_6 i rfl rfl rfl rfl rfl rfl rfl).trans ?_)
  show am_w 1 1 (am_ast 42 (fun x => x.toInt16.toInt32) pc ls (.int x :: .int j :: .ref a :: r) h) = _
  rw [am_w, if_pos rfl]
  unfold am_ast
  dsimp only
  rw [if_pos ⟨hk.1, hk.2, hj⟩]
  rfl
theorem az_last {a : Nat} {j : Int32} {x : Int64} (i : am_ins m pc = some (.lastore, 1)) (hk : am_k a = 43 ∧ am_P ≤ am_i a) (hj : ¬ (j < 0 ∨ am_n a ≤ j.toNatClampNeg)) : am_G d m pc ls (.long x :: .int j :: .ref a :: r) h = am_G d m (pc + 1) ls r (am_p h a j.toNatClampNeg (.long x)) := by
  refine am_next ((am_s_6 i rfl rfl rfl rfl rfl rfl rfl).trans ?_)
  show am_w 1 1 (if am_k a = 43 ∧ am_P ≤ am_i a ∧ ¬ (j < 0 ∨ am_n a ≤ j.toNatClampNeg) then am_nx (pc + 1) ls r (am_p h a j.toNatClampNeg (.long x)) else none) = _
  rw [am_w, if_pos rfl, if_pos ⟨hk.1, hk.2, hj⟩]
  rfl
theorem az_aast {a v : Nat} {j : Int32} (i : am_ins m pc = some (.aastore, 1)) (hk : am_ra (am_k a) = some (am_k v) ∧ am_P ≤ am_i a) (hj : ¬ (j < 0 ∨ am_n a ≤ j.toNatClampNeg)) : am_G d m pc ls (.ref v :: .int j :: .ref a :: r) h = am_G d m (pc + 1) ls r (am_p h a j.toNatClampNeg (.ref v)) := by
  refine am_next ((am_s_6 i rfl rfl rfl rfl rfl rfl rfl).trans ?_)
  show am_w 1 1 (if am_ra (am_k a) = some (am_k v) ∧ am_P ≤ am_i a ∧ ¬ (j < 0 ∨ am_n a ≤ j.toNatClampNeg) then am_nx (pc + 1) ls r (am_p h a j.toNatClampNeg (.ref v)) else none) = _
  rw [am_w, if_pos rfl, if_pos ⟨hk.1, hk.2, hj⟩]
  rfl
theorem az_alen {a : Nat} (i : am_ins m pc = some (.arraylength, 1)) (hk : 40 ≤ am_k a ∧ am_k a < 50) : am_G d m pc ls (.ref a :: r) h = am_G d m (pc + 1) ls (.int (Int32.ofNat (am_n a)) :: r) h := by
  refine am_next ((am_s_6 i rfl rfl rfl rfl rfl rfl rfl).trans ?_)
  show am_w 1 1 (if 40 ≤ am_k a ∧ am_k a < 50 then am_nx (pc + 1) ls (.int (Int32.ofNat (am_n a)) :: r) h else none) = _
  rw [am_w, if_pos rfl, if_pos hk]
  rfl
theorem az_newa_int {n : Int32} (i : am_ins m pc = some (.newarray .int, 2)) (hn : ¬ n < 0 ∧ n.toNatClampNeg ≤ 65536) : am_G d m pc ls (.int n :: r) h = am_G d m (pc + 2) ls (.ref (am_a h.1 n.toNatClampNeg 40) :: r) (am_new h (am_a h.1 n.toNatClampNeg 40) n.toNatClampNeg (fun _ => .int 0)) := by
  refine am_next ((am_s_6 i rfl rfl rfl rfl rfl rfl rfl).trans ?_)
  show am_w 2 2 (am_mk 40 (.int 0) (pc + 2) ls (.int n :: r) h) = _
  rw [am_w, if_pos rfl]
  unfold am_mk
  dsimp only
  rw [if_pos hn]
  rfl
theorem az_newa_byte {n : Int32} (i : am_ins m pc = some (.newarray .byte, 2)) (hn : ¬ n < 0 ∧ n.toNatClampNeg ≤ 65536) : am_G d m pc ls (.int n :: r) h = am_G d m (pc + 2) ls (.ref (am_a h.1 n.toNatClampNeg 41) :: r) (am_new h (am_a h.1 n.toNatClampNeg 41) n.toNatClampNeg (fun _ => .int 0)) := by
  refine am_next ((am_s_6 i rfl rfl rfl rfl rfl rfl rfl).trans ?_)
  show am_w 2 2 (am_mk 41 (.int 0) (pc + 2) ls (.int n :: r) h) = _
  rw [am_w, if_pos rfl]
  unfold am_mk
  dsimp only
  rw [if_pos hn]
  rfl
theorem az_newa_short {n : Int32} (i : am_ins m pc = some (.newarray .short, 2)) (hn : ¬ n < 0 ∧ n.toNatClampNeg ≤ 65536) : am_G d m pc ls (.int n :: r) h = am_G d m (pc + 2) ls (.ref (am_a h.1 n.toNatClampNeg 42) :: r) (am_new h (am_a h.1 n.toNatClampNeg 42) n.toNatClampNeg (fun _ => .int 0)) := by
  refine am_next ((am_s_6 i rfl rfl rfl rfl rfl rfl rfl).trans ?_)
  show am_w 2 2 (am_mk 42 (.int 0) (pc + 2) ls (.int n :: r) h) = _
  rw [am_w, if_pos rfl]
  unfold am_mk
  dsimp only
  rw [if_pos hn]
  rfl
theorem az_newa_long {n : Int32} (i : am_ins m pc = some (.newarray .long, 2)) (hn : ¬ n < 0 ∧ n.toNatClampNeg ≤ 65536) : am_G d m pc ls (.int n :: r) h = am_G d m (pc + 2) ls (.ref (am_a h.1 n.toNatClampNeg 43) :: r) (am_new h (am_a h.1 n.toNatClampNeg 43) n.toNatClampNeg (fun _ => .long 0)) := by
  refine am_next ((am_s_6 i rfl rfl rfl rfl rfl rfl rfl).trans ?_)
  show am_w 2 2 (am_mk 43 (.long 0) (pc + 2) ls (.int n :: r) h) = _
  rw [am_w, if_pos rfl]
  unfold am_mk
  dsimp only
  rw [if_pos hn]
  rfl
theorem az_anew {x k : Nat} {n : Int32} (i : am_ins m pc = some (.anewarray x, 3)) (hf : am_an (am_own m) x = some k) (hn : ¬ n < 0 ∧ n.toNatClampNeg ≤ 65536) : am_G d m pc ls (.int n :: r) h = am_G d m (pc + 3) ls (.ref (am_a h.1 n.toNatClampNeg k) :: r) (am_new h (am_a h.1 n.toNatClampNeg k) n.toNatClampNeg (fun _ => .null)) := by
  refine am_next ((am_s_6 i rfl rfl rfl rfl rfl rfl rfl).trans ?_)
  show am_w 3 3 _ = _
  rw [am_w, if_pos rfl, hf]
  dsimp only
  unfold am_mk
  dsimp only
  rw [if_pos hn]
  rfl
theorem az_new {x c : Nat} (i : am_ins m pc = some (.new x, 3)) (hf : am_nw (am_own m) x = some c) : am_G d m pc ls st h = am_G d m (pc + 3) ls (.ref (am_a h.1 0 c) :: st) (am_new h (am_a h.1 0 c) (am_sl0 c) (fun k => defaultValue (am_ty c k))) := by
  refine am_next ((am_s_6 i rfl rfl rfl rfl rfl rfl rfl).trans ?_)
  show am_w 3 3 _ = _
  rw [am_w, if_pos rfl, hf]
  rfl
theorem az_cast {x a c : Nat} (i : am_ins m pc = some (.checkcast x, 3)) (hf : am_cc (am_own m) x = some c) (hk : am_k a = c) : am_G d m pc ls (.ref a :: r) h = am_G d m (pc + 3) ls (.ref a :: r) h := by
  refine am_next ((am_s_6 i rfl rfl rfl rfl rfl rfl rfl).trans ?_)
  show am_w 3 3 _ = _
  rw [am_w, if_pos rfl]
  simp only [hf]
  rw [if_pos hk]
  rfl
theorem az_inst {x a c : Nat} (i : am_ins m pc = some (.instanceof x, 3)) (hf : am_cc (am_own m) x = some c) (hk : am_k a = c) : am_G d m pc ls (.ref a :: r) h = am_G d m (pc + 3) ls (.int 1 :: r) h := by
  refine am_next ((am_s_6 i rfl rfl rfl rfl rfl rfl rfl).trans ?_)
  show am_w 3 3 _ = _
  rw [am_w, if_pos rfl]
  simp only [hf]
  rw [if_pos hk]
  rfl
theorem az_inv {x f k : Nat} {b : Nat} {as r : List Value} (i : am_ins m pc = some (.invokevirtual x, 3)) (hf : am_ml (am_own m) x = some (f, k)) (hk : k = 0 ∨ (k = 3 ∧ am_hh f = false)) (ha : as.length = am_ar f) (hst : st = as.reverse ++ .ref b :: r) (hkb : am_k b = am_own f) (hc : am_cat r ≤ 8) : am_G d m pc ls st h = am_then (am_M d f (.ref b :: as) h) (fun v h2 => am_G d m (pc + 3) ls (v.toList ++ r) h2) := by
  subst hst
  refine am_calls ((am_s_7 i rfl rfl rfl rfl rfl rfl rfl).trans ?_)
  show am_w 3 3 _ = _
  rw [am_w, if_pos rfl, hf]
  dsimp only
  rw [if_pos hk]
  have hl : as.reverse.length = am_ar f := by rw [List.length_reverse]; exact ha
  unfold am_vir
  rw [List.drop_left' hl]
  dsimp only
  rw [if_pos ⟨by rw [List.length_append, hl]; exact Nat.le_add_right _ _, hkb⟩, List.take_left' hl, List.reverse_reverse]
  unfold am_call
  rw [if_pos hc]
theorem az_ini {x f k c : Nat} {b : Nat} {as r : List Value} (i : am_ins m pc = some (.invokeinterface x c, 5)) (hf : am_ml (am_own m) x = some (f, k)) (hk : k = 8 ∧ am_hh f = false ∧ am_own f = 12) (ha : as.length = am_ar f) (hst : st = as.reverse ++ .ref b :: r) (hkb : am_k b = am_own f) (hc : am_cat r ≤ 8) : am_G d m pc ls st h = am_then (am_M d f (.ref b :: as) h) (fun v h2 => am_G d m (pc + 5) ls (v.toList ++ r) h2) := by
  subst hst
  refine am_calls ((am_s_7 i rfl rfl rfl rfl rfl rfl rfl).trans ?_)
  show am_w 5 5 _ = _
  rw [am_w, if_pos rfl, hf]
  dsimp only
  rw [if_pos hk]
  have hl : as.reverse.length = am_ar f := by rw [List.length_reverse]; exact ha
  unfold am_vir
  rw [List.drop_left' hl]
  dsimp only
  rw [if_pos ⟨by rw [List.length_append, hl]; exact Nat.le_add_right _ _, hkb⟩, List.take_left' hl, List.reverse_reverse]
  unfold am_call
  rw [if_pos hc]
theorem az_ins2 {x f k : Nat} {as r : List Value} (i : am_ins m pc = some (.invokestatic x, 3)) (hf : am_ml (am_own m) x = some (f, k)) (hk : (k = 1 ∨ k = 4) ∧ am_hh f = false) (ha : as.length = am_ar f) (hst : st = as.reverse ++ r) (hc : am_cat r ≤ 8) : am_G d m pc ls st h = am_then (am_M d f as h) (fun v h2 => am_G d m (pc + 3) ls (v.toList ++ r) h2) := by
  subst hst
  refine am_calls ((am_s_7 i rfl rfl rfl rfl rfl rfl rfl).trans ?_)
  show am_w 3 3 _ = _
  rw [am_w, if_pos rfl, hf]
  dsimp only
  have hl : as.reverse.length = am_ar f := by rw [List.length_reverse]; exact ha
  rw [if_neg (by omega), if_neg (by omega), if_neg (by omega), if_neg (by omega), if_pos ⟨hk.1, hk.2, by rw [List.length_append, hl]; exact Nat.le_add_right _ _⟩, List.take_left' hl, List.drop_left' hl, List.reverse_reverse]
  unfold am_call
  rw [if_pos hc]
theorem az_inp {x f k : Nat} {b : Nat} {as r : List Value} (i : am_ins m pc = some (.invokespecial x, 3)) (hf : am_ml (am_own m) x = some (f, k)) (hk : (k = 2 ∨ k = 5) ∧ am_hh f = false) (ha : as.length = am_ar f) (hst : st = as.reverse ++ .ref b :: r) (hkb : am_real b = true) (hc : am_cat r ≤ 8) : am_G d m pc ls st h = am_then (am_M d f (.ref b :: as) h) (fun v h2 => am_G d m (pc + 3) ls (v.toList ++ r) h2) := by
  subst hst
  refine am_calls ((am_s_7 i rfl rfl rfl rfl rfl rfl rfl).trans ?_)
  show am_w 3 3 _ = _
  rw [am_w, if_pos rfl, hf]
  dsimp only
  have hl : as.reverse.length = am_ar f := by rw [List.length_reverse]; exact ha
  rw [if_neg (by omega), if_pos hk, List.drop_left' hl]
  dsimp only
  rw [if_pos ⟨by rw [List.length_append, hl]; exact Nat.le_add_right _ _, hkb⟩, List.take_left' hl, List.reverse_reverse]
  unfold am_call
  rw [if_pos hc]
theorem az_obj {x f : Nat} {a : Nat} (i : am_ins m pc = some (.invokespecial x, 3)) (hf : am_ml (am_own m) x = some (f, 6)) (hkb : am_real a = true) (hc : am_cat r ≤ 8) : am_G d m pc ls (.ref a :: r) h = am_G d m (pc + 3) ls r h := by
  refine am_next ((am_s_7 i rfl rfl rfl rfl rfl rfl rfl).trans ?_)
  show am_w 3 3 _ = _
  rw [am_w, if_pos rfl, hf]
  dsimp only
  rw [if_pos rfl, if_pos ⟨hc, hkb⟩]
  rfl
theorem az_max {x f : Nat} {y z : Int32} (i : am_ins m pc = some (.invokestatic x, 3)) (hf : am_ml (am_own m) x = some (f, 9)) (hc : am_cat r ≤ 8) : am_G d m pc ls (.int y :: .int z :: r) h = am_G d m (pc + 3) ls (.int (if z < y then y else z) :: r) h := by
  refine am_next ((am_s_7 i rfl rfl rfl rfl rfl rfl rfl).trans ?_)
  show am_w 3 3 _ = _
  rw [am_w, if_pos rfl, hf]
  dsimp only
  rw [if_neg (by omega), if_pos rfl, if_pos hc]
  rfl
theorem az_min {x f : Nat} {y z : Int32} (i : am_ins m pc = some (.invokestatic x, 3)) (hf : am_ml (am_own m) x = some (f, 10)) (hc : am_cat r ≤ 8) : am_G d m pc ls (.int y :: .int z :: r) h = am_G d m (pc + 3) ls (.int (if y < z then y else z) :: r) h := by
  refine am_next ((am_s_7 i rfl rfl rfl rfl rfl rfl rfl).trans ?_)
  show am_w 3 3 _ = _
  rw [am_w, if_pos rfl, hf]
  dsimp only
  rw [if_neg (by omega), if_neg (by omega), if_pos rfl, if_pos hc]
  rfl
theorem az_abs {x f : Nat} {y : Int32} (i : am_ins m pc = some (.invokestatic x, 3)) (hf : am_ml (am_own m) x = some (f, 11)) (hc : am_cat r ≤ 8) : am_G d m pc ls (.int y :: r) h = am_G d m (pc + 3) ls (.int (if 0 ≤ y then y else 0 - y) :: r) h := by
  refine am_next ((am_s_7 i rfl rfl rfl rfl rfl rfl rfl).trans ?_)
  show am_w 3 3 _ = _
  rw [am_w, if_pos rfl, hf]
  dsimp only
  rw [if_neg (by omega), if_neg (by omega), if_neg (by omega), if_pos rfl, if_pos hc]
  rfl
theorem az_copy {x f a b : Nat} {c sp dp : Int32} (i : am_ins m pc = some (.invokestatic x, 3)) (hf : am_ml (am_own m) x = some (f, 7)) (hk : am_k a = 41 ∧ am_k b = 41 ∧ a ≠ b ∧ am_P ≤ am_i b ∧ ¬ sp < 0 ∧ ¬ dp < 0 ∧ ¬ c < 0 ∧ sp.toNatClampNeg + c.toNatClampNeg ≤ am_n a ∧ dp.toNatClampNeg + c.toNatClampNeg ≤ am_n b ∧ am_cat r ≤ 8) : am_G d m pc ls (.int c :: .int dp :: .ref b :: .int sp :: .ref a :: r) h = am_G d m (pc + 3) ls r (am_copy h a b sp.toNatClampNeg dp.toNatClampNeg c.toNatClampNeg) := by
  refine am_next ((am_s_7 i rfl rfl rfl rfl rfl rfl rfl).trans ?_)
  show am_w 3 3 _ = _
  rw [am_w, if_pos rfl, hf]
  dsimp only
  rw [if_pos rfl, if_pos hk]
  rfl
theorem az_ret (i : am_ins m pc = some (.return_, 1)) (hr : am_rt m = none) : am_G d m pc ls [] h = some (none, h) := by
  refine am_end ((am_s_8 i rfl rfl rfl rfl rfl rfl rfl).trans ?_)
  show am_w 1 1 _ = _
  rw [am_w, if_pos rfl, hr]
  rfl
theorem az_iret {v : Int32} {ty : FieldType} (i : am_ins m pc = some (.ireturn, 1)) (hr : am_rt m = some ty) (hn : narrow ty (.int v) = .int v) : am_G d m pc ls [.int v] h = some (some (.int v), h) := by
  refine am_end ((am_s_8 i rfl rfl rfl rfl rfl rfl rfl).trans ?_)
  show am_w 1 1 _ = _
  rw [am_w, if_pos rfl, hr]
  dsimp only
  rw [if_pos hn]
  rfl
theorem az_lret {v : Int64} (i : am_ins m pc = some (.lreturn, 1)) (hr : am_rt m = some .long) : am_G d m pc ls [.long v] h = some (some (.long v), h) := by
  refine am_end ((am_s_8 i rfl rfl rfl rfl rfl rfl rfl).trans ?_)
  show am_w 1 1 _ = _
  rw [am_w, if_pos rfl, hr]
  rfl
theorem az_aretO {v : Nat} {C : String} (i : am_ins m pc = some (.areturn, 1)) (hr : am_rt m = some (.object C)) : am_G d m pc ls [.ref v] h = some (some (.ref v), h) := by
  refine am_end ((am_s_8 i rfl rfl rfl rfl rfl rfl rfl).trans ?_)
  show am_w 1 1 _ = _
  rw [am_w, if_pos rfl, hr]
  rfl
theorem az_aretA {v : Nat} {t : FieldType} (i : am_ins m pc = some (.areturn, 1)) (hr : am_rt m = some (.array t)) : am_G d m pc ls [.ref v] h = some (some (.ref v), h) := by
  refine am_end ((am_s_8 i rfl rfl rfl rfl rfl rfl rfl).trans ?_)
  show am_w 1 1 _ = _
  rw [am_w, if_pos rfl, hr]
  rfl
theorem az_aretN {C : String} (i : am_ins m pc = some (.areturn, 1)) (hr : am_rt m = some (.object C)) : am_G d m pc ls [.null] h = some (some .null, h) := by
  refine am_end ((am_s_8 i rfl rfl rfl rfl rfl rfl rfl).trans ?_)
  show am_w 1 1 _ = _
  rw [am_w, if_pos rfl, hr]
  rfl
end AZ
