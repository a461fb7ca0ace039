/-! The law tells its text (printed by gen/feed.py) -/
set_option maxRecDepth 100000
set_option maxHeartbeats 4000000
def HW (g : Nat → Nat → Value) (c0 s0 : Nat) (n : Nat) (tb : Nat → Int32) (q : Nat → Int64) (two : Nat → Int64) : am_H := (c0, s0, fun a k => if a = 4798283777 then (if k = 0 then .ref 4815189033 else if k = 1 then .int (Int32.ofNat n) else g a k) else if a = 4815189033 then .int (tb k) else if a = 124772155947 then .long (q k) else if a = 124839264427 then .long (two k) else g a k)
theorem HW_r0 {g : Nat → Nat → Value} {c0 s0 : Nat} {n : Nat} {tb : Nat → Int32} {q : Nat → Int64} {two : Nat → Int64} : am_g (HW g c0 s0 n tb q two) 4798283777 0 = .ref 4815189033 := rfl
theorem HW_r1 {g : Nat → Nat → Value} {c0 s0 : Nat} {n : Nat} {tb : Nat → Int32} {q : Nat → Int64} {two : Nat → Int64} : am_g (HW g c0 s0 n tb q two) 4798283777 1 = .int (Int32.ofNat n) := rfl
theorem HW_w1 {g : Nat → Nat → Value} {c0 s0 : Nat} {n : Nat} {tb : Nat → Int32} {q : Nat → Int64} {two : Nat → Int64} {w : Nat} : am_p (HW g c0 s0 n tb q two) 4798283777 1 (.int (Int32.ofNat w)) = HW g c0 s0 w tb q two := by
  refine Prod.ext rfl (Prod.ext rfl ?_)
  funext b j
  show (if b = 4798283777 ∧ j = 1 then _ else (HW g c0 s0 n tb q two).2.2 b j) = (HW g c0 s0 w tb q two).2.2 b j
  by_cases h : b = 4798283777
  · subst h
    by_cases h2 : j = 1
    · subst h2; rfl
    · simp [HW, h2]
  · simp [HW, h]
theorem HW_a0 {g : Nat → Nat → Value} {c0 s0 : Nat} {n : Nat} {tb : Nat → Int32} {q : Nat → Int64} {two : Nat → Int64} {j : Nat} : am_g (HW g c0 s0 n tb q two) 4815189033 j = .int (tb j) := rfl
theorem HW_b0 {g : Nat → Nat → Value} {c0 s0 : Nat} {n : Nat} {tb : Nat → Int32} {q : Nat → Int64} {two : Nat → Int64} {j : Nat} {w : Int32} : am_p (HW g c0 s0 n tb q two) 4815189033 j (.int w) = HW g c0 s0 n (up tb j w) q two := by
  refine Prod.ext rfl (Prod.ext rfl ?_)
  funext b i
  show (if b = 4815189033 ∧ i = j then _ else (HW g c0 s0 n tb q two).2.2 b i) = (HW g c0 s0 n (up tb j w) q two).2.2 b i
  by_cases h : b = 4815189033
  · subst h
    by_cases h2 : i = j
    · subst h2; simp [HW, up]
    · simp [HW, up, h2]
  · simp [HW, h]
theorem HW_a1 {g : Nat → Nat → Value} {c0 s0 : Nat} {n : Nat} {tb : Nat → Int32} {q : Nat → Int64} {two : Nat → Int64} {j : Nat} : am_g (HW g c0 s0 n tb q two) 124772155947 j = .long (q j) := rfl
theorem HW_b1 {g : Nat → Nat → Value} {c0 s0 : Nat} {n : Nat} {tb : Nat → Int32} {q : Nat → Int64} {two : Nat → Int64} {j : Nat} {w : Int64} : am_p (HW g c0 s0 n tb q two) 124772155947 j (.long w) = HW g c0 s0 n tb (up q j w) two := by
  refine Prod.ext rfl (Prod.ext rfl ?_)
  funext b i
  show (if b = 124772155947 ∧ i = j then _ else (HW g c0 s0 n tb q two).2.2 b i) = (HW g c0 s0 n tb (up q j w) two).2.2 b i
  by_cases h : b = 124772155947
  · subst h
    by_cases h2 : i = j
    · subst h2; simp [HW, up]
    · simp [HW, up, h2]
  · simp [HW, h]
theorem HW_a2 {g : Nat → Nat → Value} {c0 s0 : Nat} {n : Nat} {tb : Nat → Int32} {q : Nat → Int64} {two : Nat → Int64} {j : Nat} : am_g (HW g c0 s0 n tb q two) 124839264427 j = .long (two j) := rfl
theorem HW_b2 {g : Nat → Nat → Value} {c0 s0 : Nat} {n : Nat} {tb : Nat → Int32} {q : Nat → Int64} {two : Nat → Int64} {j : Nat} {w : Int64} : am_p (HW g c0 s0 n tb q two) 124839264427 j (.long w) = HW g c0 s0 n tb q (up two j w) := by
  refine Prod.ext rfl (Prod.ext rfl ?_)
  funext b i
  show (if b = 124839264427 ∧ i = j then _ else (HW g c0 s0 n tb q two).2.2 b i) = (HW g c0 s0 n tb q (up two j w)).2.2 b i
  by_cases h : b = 124839264427
  · subst h
    by_cases h2 : i = j
    · subst h2; simp [HW, up]
    · simp [HW, up, h2]
  · simp [HW, h]
theorem HW_of {h : am_H} {n : Nat} {tb : Nat → Int32} {q : Nat → Int64} {two : Nat → Int64} (hc0 : am_g h 4798283777 0 = .ref 4815189033) (hc1 : am_g h 4798283777 1 = .int (Int32.ofNat n)) (ha0 : ∀ j, am_g h 4815189033 j = .int (tb j)) (ha1 : ∀ j, am_g h 124772155947 j = .long (q j)) (ha2 : ∀ j, am_g h 124839264427 j = .long (two j)) : h = HW h.2.2 h.1 h.2.1 n tb q two := by
  refine Prod.ext rfl (Prod.ext rfl ?_)
  funext b j
  refine hs_ite (fun e => ?_) (fun _ => ?_)
  · subst e
    refine hs_ite (fun e => by subst e; exact hc0) (fun _ => ?_)
    refine hs_ite (fun e => by subst e; exact hc1) (fun _ => ?_)
    rfl
  refine hs_ite (fun e => by subst e; exact ha0 _) (fun _ => ?_)
  refine hs_ite (fun e => by subst e; exact ha1 _) (fun _ => ?_)
  refine hs_ite (fun e => by subst e; exact ha2 _) (fun _ => ?_)
  rfl
theorem TF_app {m : List Nat} {b : Nat} : up (bF (TF m)) m.length (Int32.ofNat b) = bF (TF (m ++ [b])) := by
  funext j
  unfold up bF TF
  by_cases e : j = m.length
  · subst e
    have := getD_app (l := m) (r := [b]) (k := 0)
    rw [Nat.add_zero] at this
    rw [if_pos rfl, this]
    rfl
  · rw [if_neg e]
    by_cases c : j < m.length
    · rw [getD_appl c]
    · rw [List.getD_eq_getElem?_getD, List.getD_eq_getElem?_getD, List.getElem?_eq_none (by omega), List.getElem?_eq_none (by rw [List.length_append, List.length_singleton]; omega)]
def pk (r : List Nat) (i : Nat) : Nat := r.getD i 0 * 16777216 + r.getD (i + 1) 0 * 65536 + r.getD (i + 2) 0 * 256 + r.getD (i + 3) 0
theorem tf_b {v s b : Nat} (hv : v < 2147483648) (hs : s < 31) (hb : b < 128) (h : v / 2 ^ s % 256 = b) : (Int32.ofNat v >>> Int32.ofNat s).toInt8.toInt32 = Int32.ofNat b := by
  rw [n_shr s (by omega) hv]
  have e : sb (Int32.ofNat (v / 2 ^ s % 256)) = sb (Int32.ofNat (v / 2 ^ s)) := by rw [sb_lo]
  have e2 : (Int32.ofNat (v / 2 ^ s)).toInt8.toInt32 = sb (Int32.ofNat (v / 2 ^ s)) := rfl
  rw [e2, ← e, h]
  exact n_i8 hb
theorem tp_four {g : Nat → Nat → Value} {c0 s0 : Nat} {q two : Nat → Int64} {m : List Nat} {b0 b1 b2 b3 : Nat} (h0 : b0 < 128) (h1 : b1 < 128) (h2 : b2 < 128) (h3 : b3 < 128) (hm : m.length + 4 ≤ 2000) {d : Nat} : am_M (d + 1) 31 [.ref 4798283777, .int (Int32.ofNat (b0 * 16777216 + b1 * 65536 + b2 * 256 + b3))] (HW g c0 s0 (m.length) (bF (TF m)) q two) = some (none, HW g c0 s0 ((m ++ [b0, b1, b2, b3]).length) (bF (TF (m ++ [b0, b1, b2, b3]))) q two) := by
  obtain ⟨v, hv⟩ : ∃ v, v = b0 * 16777216 + b1 * 65536 + b2 * 256 + b3 := ⟨_, rfl⟩
  rw [← hv]
  have s0' : (Int32.ofNat v >>> (24 &&& 31)).toInt8.toInt32 = Int32.ofNat b0 := tf_b (s := 24) (by omega) (by decide) h0 (by omega)
  have s1' : (Int32.ofNat v >>> (16 &&& 31)).toInt8.toInt32 = Int32.ofNat b1 := tf_b (s := 16) (by omega) (by decide) h1 (by omega)
  have s2' : (Int32.ofNat v >>> (8 &&& 31)).toInt8.toInt32 = Int32.ofNat b2 := tf_b (s := 8) (by omega) (by decide) h2 (by omega)
  have s3' : (Int32.ofNat v >>> (0 &&& 31)).toInt8.toInt32 = Int32.ofNat b3 := tf_b (s := 0) (by omega) (by decide) h3 (by omega)
  have c24 : ((24 : Int32) < 0) = False := eq_false (by decide)
  have c16 : ((16 : Int32) < 0) = False := eq_false (by decide)
  have c8 : ((8 : Int32) < 0) = False := eq_false (by decide)
  have c0' : ((0 : Int32) < 0) = False := eq_false (by decide)
  have c8' : ((-8 : Int32) < 0) = True := eq_true (by decide)
  have a24 : (24 : Int32) + -8 = 16 := by decide
  have a16 : (16 : Int32) + -8 = 8 := by decide
  have a8 : (8 : Int32) + -8 = 0 := by decide
  have a0 : (0 : Int32) + -8 = -8 := by decide
  have e0 := TF_app (m := m) (b := b0)
  have e1 := TF_app (m := m ++ [b0]) (b := b1)
  have e2 := TF_app (m := m ++ [b0] ++ [b1]) (b := b2)
  have e3 := TF_app (m := m ++ [b0] ++ [b1] ++ [b2]) (b := b3)
  have l1 : (m ++ [b0]).length = m.length + 1 := by rw [List.length_append]; rfl
  have l2 : (m ++ [b0] ++ [b1]).length = m.length + 1 + 1 := by rw [List.length_append, l1]; rfl
  have l3 : (m ++ [b0] ++ [b1] ++ [b2]).length = m.length + 1 + 1 + 1 := by rw [List.length_append, l2]; rfl
  rw [l1] at e1
  rw [l2] at e2
  rw [l3] at e3
  have l4 : (m ++ [b0, b1, b2, b3]).length = m.length + 1 + 1 + 1 + 1 := by rw [List.length_append]; rfl
  have e4 : m ++ [b0, b1, b2, b3] = m ++ [b0] ++ [b1] ++ [b2] ++ [b3] := by simp
  rw [l4, e4, ← e3, ← e2, ← e1, ← e0]
  rw [e31]
  simp (disch := (refine id ?_; first | with_reducible assumption | with_unfolding_all exact rfl | with_unfolding_all exact Nat.le_of_ble_eq_true rfl | (simp only [am_cat_nil, am_cat_int, am_cat_ref, am_cat_null, am_cat_long, Nat.reduceAdd, Nat.reduceLeDiff]; done) | omega | exact i_bnd2 (by simp only [am_n, Nat.reduceDiv, Nat.reduceMod, Nat.reduceMul, Nat.reduceAdd]; omega) | decide | fail)) only [z31_0, z31_2, z31_3, z31_4, z31_7, z31_8, z31_11, z31_12, z31_15, z31_16, z31_17, z31_18, z31_19, z31_20, z31_21, z31_21I, z31_22, z31_25, z31_26, z31_27, z31_30, z31_33, z31_36, HW_r0, HW_r1, HW_a0, HW_a1, HW_a2, HW_w1, HW_b0, HW_b1, HW_b2, s0', s1', s2', s3', c24, c16, c8, c0', c8', a24, a16, a8, a0, n_i8 h0, n_i8 h1, n_i8 h2, n_i8 h3, ↓reduceIte, i_10, i_00, am_then_some, am_tl1, am_tl0, i_addl, ad2, Nat.reduceAdd, tn_of, List.nil_append]
theorem tp_feed {g : Nat → Nat → Value} {c0 s0 : Nat} {q two : Nat → Int64} {m : List Nat} {b0 b1 b2 b3 b4 b5 b6 b7 b8 b9 b10 b11 b12 b13 b14 b15 b16 b17 b18 b19 : Nat} (h0 : b0 < 128) (h1 : b1 < 128) (h2 : b2 < 128) (h3 : b3 < 128) (h4 : b4 < 128) (h5 : b5 < 128) (h6 : b6 < 128) (h7 : b7 < 128) (h8 : b8 < 128) (h9 : b9 < 128) (h10 : b10 < 128) (h11 : b11 < 128) (h12 : b12 < 128) (h13 : b13 < 128) (h14 : b14 < 128) (h15 : b15 < 128) (h16 : b16 < 128) (h17 : b17 < 128) (h18 : b18 < 128) (h19 : b19 < 128) (hm : m.length + 20 ≤ 2000) {d : Nat} : am_M (d + 2) 30 [.ref 4798283777, .int (Int32.ofNat (b0 * 16777216 + b1 * 65536 + b2 * 256 + b3)), .int (Int32.ofNat (b4 * 16777216 + b5 * 65536 + b6 * 256 + b7)), .int (Int32.ofNat (b8 * 16777216 + b9 * 65536 + b10 * 256 + b11)), .int (Int32.ofNat (b12 * 16777216 + b13 * 65536 + b14 * 256 + b15)), .int (Int32.ofNat (b16 * 16777216 + b17 * 65536 + b18 * 256 + b19))] (HW g c0 s0 (m.length) (bF (TF m)) q two) = some (some (.int (Int32.ofNat (m.length + 20))), HW g c0 s0 ((m.length + 20)) (bF (TF (m ++ [b0, b1, b2, b3, b4, b5, b6, b7, b8, b9, b10, b11, b12, b13, b14, b15, b16, b17, b18, b19]))) q two) := by
  have f0 := tp_four (g := g) (c0 := c0) (s0 := s0) (q := q) (two := two) (m := m) (d := d) h0 h1 h2 h3 (by simp; omega)
  rw [show (m ++ [b0, b1, b2, b3]).length = m.length + 4 by simp] at f0
  have f1 := tp_four (g := g) (c0 := c0) (s0 := s0) (q := q) (two := two) (m := (m ++ [b0, b1, b2, b3])) (d := d) h4 h5 h6 h7 (by simp; omega)
  rw [show (m ++ [b0, b1, b2, b3]) ++ [b4, b5, b6, b7] = m ++ [b0, b1, b2, b3, b4, b5, b6, b7] by simp, show (m ++ [b0, b1, b2, b3]).length = m.length + 4 by simp, show (m ++ [b0, b1, b2, b3, b4, b5, b6, b7]).length = m.length + 8 by simp] at f1
  have f2 := tp_four (g := g) (c0 := c0) (s0 := s0) (q := q) (two := two) (m := (m ++ [b0, b1, b2, b3, b4, b5, b6, b7])) (d := d) h8 h9 h10 h11 (by simp; omega)
  rw [show (m ++ [b0, b1, b2, b3, b4, b5, b6, b7]) ++ [b8, b9, b10, b11] = m ++ [b0, b1, b2, b3, b4, b5, b6, b7, b8, b9, b10, b11] by simp, show (m ++ [b0, b1, b2, b3, b4, b5, b6, b7]).length = m.length + 8 by simp, show (m ++ [b0, b1, b2, b3, b4, b5, b6, b7, b8, b9, b10, b11]).length = m.length + 12 by simp] at f2
  have f3 := tp_four (g := g) (c0 := c0) (s0 := s0) (q := q) (two := two) (m := (m ++ [b0, b1, b2, b3, b4, b5, b6, b7, b8, b9, b10, b11])) (d := d) h12 h13 h14 h15 (by simp; omega)
  rw [show (m ++ [b0, b1, b2, b3, b4, b5, b6, b7, b8, b9, b10, b11]) ++ [b12, b13, b14, b15] = m ++ [b0, b1, b2, b3, b4, b5, b6, b7, b8, b9, b10, b11, b12, b13, b14, b15] by simp, show (m ++ [b0, b1, b2, b3, b4, b5, b6, b7, b8, b9, b10, b11]).length = m.length + 12 by simp, show (m ++ [b0, b1, b2, b3, b4, b5, b6, b7, b8, b9, b10, b11, b12, b13, b14, b15]).length = m.length + 16 by simp] at f3
  have f4 := tp_four (g := g) (c0 := c0) (s0 := s0) (q := q) (two := two) (m := (m ++ [b0, b1, b2, b3, b4, b5, b6, b7, b8, b9, b10, b11, b12, b13, b14, b15])) (d := d) h16 h17 h18 h19 (by simp; omega)
  rw [show (m ++ [b0, b1, b2, b3, b4, b5, b6, b7, b8, b9, b10, b11, b12, b13, b14, b15]) ++ [b16, b17, b18, b19] = m ++ [b0, b1, b2, b3, b4, b5, b6, b7, b8, b9, b10, b11, b12, b13, b14, b15, b16, b17, b18, b19] by simp, show (m ++ [b0, b1, b2, b3, b4, b5, b6, b7, b8, b9, b10, b11, b12, b13, b14, b15]).length = m.length + 16 by simp, show (m ++ [b0, b1, b2, b3, b4, b5, b6, b7, b8, b9, b10, b11, b12, b13, b14, b15, b16, b17, b18, b19]).length = m.length + 20 by simp] at f4
  have c1 : (Int32.ofNat (m.length + 20) ≤ 2000) = True := (n_lel (m.length + 20) 2000 (by omega) (by decide)).trans (eq_true (show ¬ 2000 < m.length + 20 by omega))
  rw [e30]
  simp (disch := (refine id ?_; first | with_reducible assumption | with_unfolding_all exact rfl | with_unfolding_all exact Nat.le_of_ble_eq_true rfl | (simp only [am_cat_nil, am_cat_int, am_cat_ref, am_cat_null, am_cat_long, Nat.reduceAdd, Nat.reduceLeDiff]; done) | omega | exact i_bnd2 (by simp only [am_n, Nat.reduceDiv, Nat.reduceMod, Nat.reduceMul, Nat.reduceAdd]; omega) | decide | fail)) only [z30_0, z30_1, z30_4, z30_6, z30_7, z30_10, z30_13, z30_14, z30_15, z30_16, z30_17, z30_20, z30_21, z30_22, z30_25, z30_26, z30_27, z30_30, z30_31, z30_33, z30_36, z30_37, z30_39, z30_42, z30_43, z30_46, HW_r0, HW_r1, HW_a0, HW_a1, HW_a2, HW_w1, HW_b0, HW_b1, HW_b2, c1, f0, f1, f2, f3, f4, ↓reduceIte, i_10, i_00, am_then_some, am_tl1, am_tl0, i_addl, ad2, Nat.reduceAdd, tn_of, List.nil_append]
theorem l64_or {a b : Nat} : Int64.ofNat a ||| Int64.ofNat b = Int64.ofNat (a ||| b) := by
  apply Int64.toBitVec_inj.mp
  rw [Int64.toBitVec_or]
  exact BitVec.ofNat_or.symm
theorem l64_32 {c : Nat} (h : c < 2147483648) : (Int64.ofNat c).toInt32 = Int32.ofNat c := n_6432 h
theorem l64_mod {a : Nat} (h : a < 100000) : (Int64.ofNat a % 20).toInt32 = Int32.ofNat (a % 20) := by
  have e : Int64.ofNat a % 20 = Int64.ofNat (a % 20) := by
    apply Int64.toInt_inj.mp
    rw [Int64.toInt_mod, Int64.toInt_ofNat_of_lt (by omega), Int64.toInt_ofNat_of_lt (by omega)]
    show (a : Int).tmod 20 = _
    rw [Int.tmod_eq_emod_of_nonneg (by omega)]
    omega
  rw [e, n_6432 (by omega)]
theorem or_add {v b s : Nat} (hv : v % 2 ^ (s + 8) = 0) (hb : b < 256) : v ||| b * 2 ^ s = v + b * 2 ^ s := by
  have h : b * 2 ^ s < 2 ^ (s + 8) := by rw [Nat.pow_add, Nat.mul_comm]; exact Nat.mul_lt_mul_of_pos_left hb (Nat.two_pow_pos s)
  obtain ⟨w, hw⟩ : ∃ w, v = 2 ^ (s + 8) * w := ⟨v / 2 ^ (s + 8), by have := Nat.div_add_mod v (2 ^ (s + 8)); omega⟩
  rw [hw, ← Nat.two_pow_add_eq_or_of_lt h]
theorem l64_shl {b : Nat} (k : Nat) (hb : b < 128) (hk : k < 25) (sh : Int64) (hs : sh = Int64.ofNat k) : Int64.ofNat b <<< sh = Int64.ofNat (b * 2 ^ k) := by
  subst hs
  apply Int64.toBitVec_inj.mp
  rw [Int64.toBitVec_shiftLeft]
  apply BitVec.eq_of_toNat_eq
  have e : ((Int64.ofNat k).toBitVec.smod 64) = BitVec.ofNat 64 k := by
    have : ∀ k : Fin 25, ((Int64.ofNat k.val).toBitVec.smod 64) = BitVec.ofNat 64 k.val := by decide
    exact this ⟨k, hk⟩
  rw [e, BitVec.shiftLeft_eq', BitVec.toNat_shiftLeft, BitVec.toNat_ofNat]
  have p : 2 ^ k ≤ 2 ^ 24 := Nat.pow_le_pow_right (by decide) (by omega)
  have q : b * 2 ^ k ≤ 127 * 2 ^ 24 := Nat.mul_le_mul (by omega) p
  have t : ∀ x, (Int64.ofNat x).toBitVec.toNat = x % 18446744073709551616 := fun x => BitVec.toNat_ofNat _ _
  rw [t, t, Nat.shiftLeft_eq, Nat.mod_eq_of_lt (show k < 2 ^ 64 by omega), Nat.mod_eq_of_lt (show b < 18446744073709551616 by omega)]

