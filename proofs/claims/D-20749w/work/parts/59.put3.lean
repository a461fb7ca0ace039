/-! put, word, variable, number (printed by gen/feed2.py) -/
set_option maxRecDepth 100000
set_option maxHeartbeats 400000
def wdB (L : Int64) : Nat → List Nat
  | 0 => []
  | n + 1 => (if ((L >>> (((8 : Int32) * Int32.ofNat n).toInt64 &&& 63)) &&& 255).toInt32.toNatClampNeg = 0 then [] else [((L >>> (((8 : Int32) * Int32.ofNat n).toInt64 &&& 63)) &&& 255).toInt32.toNatClampNeg]) ++ wdB L n
theorem i_cl {x : Int32} {m : Nat} (h : x.toNatClampNeg = m) (h0 : 0 ≤ x) : x = Int32.ofNat m := by
  apply Int32.toInt_inj.mp
  rw [ci_le] at h0
  have h0' : (0 : Int) ≤ x.toInt := h0
  have e : x.toNatClampNeg = x.toInt.toNat := rfl
  have hx : x.toInt < 2147483648 := Int32.toInt_lt x
  rw [ti_of (by omega)]
  omega
theorem wd_loop {g : Nat → Nat → Value} {c0 s0 : Nat} {two : Nat → Int64} {d : Nat} {L : Int64} {l5 : Option Value} : ∀ (n : Nat) (t : List Nat) (l5 : Option Value), n ≤ 8 → (∀ j, j < n → 0 ≤ ((L >>> (((8 : Int32) * Int32.ofNat j).toInt64 &&& 63)) &&& 255).toInt32 ∧ ((L >>> (((8 : Int32) * Int32.ofNat j).toInt64 &&& 63)) &&& 255).toInt32.toNatClampNeg < 128) → t.length + n < 1999 →
    am_G (d + 3) 3 4 [some (.ref 4798283777), some (.ref 124772155947), some (.long L), some (.retAddr 0), some (.int (Int32.ofNat n + (-1))), l5] [] (HWt g c0 s0 t two) = some (none, HWt g c0 s0 (t ++ wdB L n) two) := by
  intro n
  induction n with
  | zero =>
    intro t l5 hn h ht
    have z : (Int32.ofNat 0 + (-1) < 0) = True := eq_true (by decide)
    have e : t ++ wdB L 0 = t := List.append_nil t
    rw [e]
    simp (disch := (refine id ?_; first | with_reducible assumption | with_reducible exact pb _ | with_unfolding_all exact rfl | with_unfolding_all exact Nat.le_of_ble_eq_true rfl | (simp only [am_cat_nil, am_cat_int, am_cat_ref, am_cat_null, am_cat_long, Nat.reduceAdd, Nat.reduceLeDiff]; done) | omega | exact i_bnd2 (by simp only [am_n, Nat.reduceDiv, Nat.reduceMod, Nat.reduceMul, Nat.reduceAdd]; omega) | decide | fail)) only [z3_4, z3_6, z3_9, z3_10, z3_12, z3_14, z3_15, z3_16, z3_19, z3_20, z3_21, z3_23, z3_25, z3_28, z3_28N, z3_29, z3_29N, z3_30, z3_32, z3_35, z3_38, z3_41, z, ↓reduceIte, i_10, i_00, am_then_some, am_tl1, am_tl0, i_addl, ad2, Nat.reduceAdd, Int32.reduceToNatClampNeg, List.nil_append]
  | succ n ih =>
    intro t l5 hn h ht
    have k : Int32.ofNat (n + 1) + (-1) = Int32.ofNat n := by rw [← Int32.sub_eq_add_neg]; exact i_sub1 n
    have z : (Int32.ofNat n < 0) = False := n_lt0 (by omega)
    obtain ⟨h1, h2⟩ := h n (by omega)
    have ew : wdB L (n + 1) = (if ((L >>> (((8 : Int32) * Int32.ofNat n).toInt64 &&& 63)) &&& 255).toInt32.toNatClampNeg = 0 then [] else [((L >>> (((8 : Int32) * Int32.ofNat n).toInt64 &&& 63)) &&& 255).toInt32.toNatClampNeg]) ++ wdB L n := rfl
    obtain ⟨b, hb⟩ : ∃ b, ((L >>> (((8 : Int32) * Int32.ofNat n).toInt64 &&& 63)) &&& 255).toInt32.toNatClampNeg = b := ⟨_, rfl⟩
    have xb := i_cl hb h1
    rw [hb] at h2 ew
    have ih0 := fun l5 => ih t l5 (by omega) (fun j hj => h j (by omega)) (by omega)
    have ih1 := fun l5 => ih (t ++ [b]) l5 (by omega) (fun j hj => h j (by omega)) (by rw [List.length_append]; show t.length + 1 + n < 1999; omega)
    have P := put_ok (g := g) (c0 := c0) (s0 := s0) (two := two) (d := d) (t := t) (b := b) h2 (by omega)
    rw [ew, k, z3_4]
    by_cases b0 : b = 0
    · have c : (Int32.ofNat b = 0) = True := by rw [b0]; simp
      rw [if_pos b0, List.nil_append]
      simp (disch := (refine id ?_; first | with_reducible assumption | with_reducible exact pb _ | with_unfolding_all exact rfl | with_unfolding_all exact Nat.le_of_ble_eq_true rfl | (simp only [am_cat_nil, am_cat_int, am_cat_ref, am_cat_null, am_cat_long, Nat.reduceAdd, Nat.reduceLeDiff]; done) | omega | exact i_bnd2 (by simp only [am_n, Nat.reduceDiv, Nat.reduceMod, Nat.reduceMul, Nat.reduceAdd]; omega) | decide | fail)) only [z3_6, z3_9, z3_10, z3_12, z3_14, z3_15, z3_16, z3_19, z3_20, z3_21, z3_23, z3_25, z3_28, z3_28N, z3_29, z3_29N, z3_30, z3_32, z3_35, z3_38, z3_41, z, xb, c, ih0, ↓reduceIte, i_10, i_00, am_then_some, am_tl1, am_tl0, i_addl, ad2, Nat.reduceAdd, Int32.reduceToNatClampNeg, List.nil_append]
    · have c : (Int32.ofNat b = 0) = False := (n_z (by omega)).trans (eq_false b0)
      rw [if_neg b0, ← List.append_assoc]
      simp (disch := (refine id ?_; first | with_reducible assumption | with_reducible exact pb _ | with_unfolding_all exact rfl | with_unfolding_all exact Nat.le_of_ble_eq_true rfl | (simp only [am_cat_nil, am_cat_int, am_cat_ref, am_cat_null, am_cat_long, Nat.reduceAdd, Nat.reduceLeDiff]; done) | omega | exact i_bnd2 (by simp only [am_n, Nat.reduceDiv, Nat.reduceMod, Nat.reduceMul, Nat.reduceAdd]; omega) | decide | fail)) only [z3_6, z3_9, z3_10, z3_12, z3_14, z3_15, z3_16, z3_19, z3_20, z3_21, z3_23, z3_25, z3_28, z3_28N, z3_29, z3_29N, z3_30, z3_32, z3_35, z3_38, z3_41, z, xb, c, ih1, P, ↓reduceIte, i_10, i_00, am_then_some, am_tl1, am_tl0, i_addl, ad2, Nat.reduceAdd, Int32.reduceToNatClampNeg, List.nil_append]
theorem word_ok {g : Nat → Nat → Value} {c0 s0 : Nat} {two : Nat → Int64} {d : Nat} {t : List Nat} {L : Int64} {w : List Nat} (hw : (wdB L 8 = w) ∧ ∀ j, j < 8 → 0 ≤ ((L >>> (((8 : Int32) * Int32.ofNat j).toInt64 &&& 63)) &&& 255).toInt32 ∧ ((L >>> (((8 : Int32) * Int32.ofNat j).toInt64 &&& 63)) &&& 255).toInt32.toNatClampNeg < 128) (ht : t.length + 8 < 1999) : am_M (d + 4) 3 [.ref 4798283777, .ref 124772155947, .long L] (HWt g c0 s0 t two) = some (none, HWt g c0 s0 (t ++ w) two) := by
  have e : (7 : Int32) = Int32.ofNat 8 + (-1) := by decide
  have W := fun l5 => wd_loop (g := g) (c0 := c0) (s0 := s0) (two := two) (d := d) (L := L) (l5 := l5) 8 t l5 (Nat.le_refl 8) hw.2 ht
  rw [e3 rfl rfl, z3_0, z3_2, e, W, hw.1]
/-- three bits and the like of a number of the script -/
def xbt (x : Int32) (s m : Nat) : Nat := (if s = 0 then x else x >>> Int32.ofNat s).toBitVec.toNat &&& m
theorem xbt_le {x : Int32} {s m : Nat} : xbt x s m ≤ m := Nat.and_le_right
theorem xbt_and {y : Int32} {m : Nat} (h : m < 2147483648) : y &&& Int32.ofNat m = Int32.ofNat (y.toBitVec.toNat &&& m) := by
  apply n_eq
  have le : y.toBitVec.toNat &&& m ≤ m := Nat.and_le_right
  rw [Int32.toBitVec_and, BitVec.toNat_and, Nat.mod_eq_of_lt (by omega)]
  show y.toBitVec.toNat &&& (m % 4294967296) = _
  rw [Nat.mod_eq_of_lt (by omega)]
theorem xbt_0 {x : Int32} {m : Nat} (h : (OfNat.ofNat m : Nat) < 2147483648) : x &&& (no_index (OfNat.ofNat m)) = Int32.ofNat (xbt x 0 (OfNat.ofNat m)) := xbt_and h
theorem xbt_s {x : Int32} {s m : Nat} (hs : (OfNat.ofNat s : Nat) ≠ 0) (h : (OfNat.ofNat m : Nat) < 2147483648) : x >>> (no_index (OfNat.ofNat s)) &&& (no_index (OfNat.ofNat m)) = Int32.ofNat (xbt x (OfNat.ofNat s) (OfNat.ofNat m)) := by
  have e : xbt x (OfNat.ofNat s) (OfNat.ofNat m) = (x >>> Int32.ofNat (OfNat.ofNat s)).toBitVec.toNat &&& OfNat.ofNat m := by unfold xbt; rw [if_neg hs]
  rw [e]
  exact xbt_and h
theorem var_ok {g : Nat → Nat → Value} {c0 s0 : Nat} {two : Nat → Int64} {d : Nat} {t : List Nat} {y : Int32} (ht : t.length < 1999) : am_M (d + 4) 8 [.ref 4798283777, .ref 124772155947, .int y] (HWt g c0 s0 t two) = some (none, HWt g c0 s0 (t ++ [97 + xbt y 0 3]) two) := by
  have l := xbt_le (x := y) (s := 0) (m := 3)
  have P := put_ok (g := g) (c0 := c0) (s0 := s0) (two := two) (d := d) (t := t) (b := 97 + xbt y 0 3) (by omega) ht
  have a : y &&& 3 = Int32.ofNat (xbt y 0 3) := xbt_0 (by decide)
  have e : (97 : Int32) + Int32.ofNat (xbt y 0 3) = Int32.ofNat (97 + xbt y 0 3) := n_add (x := 97)
  rw [e8 rfl rfl]
  simp (disch := (refine id ?_; first | with_reducible assumption | with_reducible exact pb _ | with_unfolding_all exact rfl | with_unfolding_all exact Nat.le_of_ble_eq_true rfl | (simp only [am_cat_nil, am_cat_int, am_cat_ref, am_cat_null, am_cat_long, Nat.reduceAdd, Nat.reduceLeDiff]; done) | omega | exact i_bnd2 (by simp only [am_n, Nat.reduceDiv, Nat.reduceMod, Nat.reduceMul, Nat.reduceAdd]; omega) | decide | fail)) only [z8_0, z8_0N, z8_1, z8_1N, z8_2, z8_4, z8_5, z8_6, z8_7, z8_8, z8_11, a, e, P, ↓reduceIte, i_10, i_00, am_then_some, am_tl1, am_tl0, i_addl, ad2, Nat.reduceAdd, Int32.reduceToNatClampNeg, List.nil_append]
theorem num_dig {x : Nat} (h : x < 10) : (48 : Int32) + Int32.ofNat x = Int32.ofNat (48 + x) := n_add (x := 48)
theorem num_0 {g : Nat → Nat → Value} {c0 s0 : Nat} {two : Nat → Int64} {d : Nat} {t : List Nat} {c : Nat} (h1 : 0 ≤ c) (h2 : c < 10) (ht : t.length + 6 < 1999) : am_M (d + 4) 10 [.ref 4798283777, .ref 124772155947, .int (Int32.ofNat c)] (HWt g c0 s0 t two) = some (none, HWt g c0 s0 (t ++ dg c) two) := by
  have ed : dg c = [48 + c % 10] := by
    unfold dg
    rw [if_neg (by omega), if_neg (by omega), if_neg (by omega), if_neg (by omega)]
    rfl
  have k0 : (Int32.ofNat c ≤ 9) = True := (n_lel c 9 (by omega) (by decide)).trans (eq_true (show (¬ (9 < c)) by omega))
  have k1 : (Int32.ofNat c ≤ 99) = True := (n_lel c 99 (by omega) (by decide)).trans (eq_true (show (¬ (99 < c)) by omega))
  have k2 : (Int32.ofNat c ≤ 999) = True := (n_lel c 999 (by omega) (by decide)).trans (eq_true (show (¬ (999 < c)) by omega))
  have k3 : (Int32.ofNat c ≤ 9999) = True := (n_lel c 9999 (by omega) (by decide)).trans (eq_true (show (¬ (9999 < c)) by omega))
  have P0 := put_ok (g := g) (c0 := c0) (s0 := s0) (two := two) (d := d) (t := t) (b := 48 + c % 10) (by omega) (by (try simp only [List.length_append, List.length_cons, List.length_nil]); omega)
  have D0 : (48 : Int32) + (Int32.ofNat c - Int32.ofNat c / 10 * 10) = Int32.ofNat (48 + c % 10) := by rw [n_rem (by omega) (by decide)]; exact n_add (x := 48)
  have e : t ++ dg c = t ++ [48 + c % 10] := by rw [ed]; try simp only [List.append_assoc, List.cons_append, List.nil_append]
  rw [e, e10 rfl rfl]
  simp (disch := (refine id ?_; first | with_reducible assumption | with_reducible exact pb _ | with_unfolding_all exact rfl | with_unfolding_all exact Nat.le_of_ble_eq_true rfl | (simp only [am_cat_nil, am_cat_int, am_cat_ref, am_cat_null, am_cat_long, Nat.reduceAdd, Nat.reduceLeDiff]; done) | omega | exact i_bnd2 (by simp only [am_n, Nat.reduceDiv, Nat.reduceMod, Nat.reduceMul, Nat.reduceAdd]; omega) | decide | fail)) only [z10_0, z10_1, z10_4, z10_7, z10_7N, z10_8, z10_8N, z10_9, z10_11, z10_12, z10_15, z10_16, z10_17, z10_20, z10_21, z10_24, z10_27, z10_27N, z10_28, z10_28N, z10_29, z10_31, z10_32, z10_35, z10_36, z10_38, z10_39, z10_40, z10_43, z10_44, z10_46, z10_49, z10_49N, z10_50, z10_50N, z10_51, z10_53, z10_54, z10_56, z10_57, z10_59, z10_60, z10_61, z10_64, z10_65, z10_67, z10_70, z10_70N, z10_71, z10_71N, z10_72, z10_74, z10_75, z10_77, z10_78, z10_80, z10_81, z10_82, z10_85, z10_85N, z10_86, z10_86N, z10_87, z10_89, z10_90, z10_92, z10_93, z10_94, z10_97, k0, k1, k2, k3, P0, D0, ↓reduceIte, i_10, i_00, am_then_some, am_tl1, am_tl0, i_addl, ad2, Nat.reduceAdd, Int32.reduceToNatClampNeg, List.nil_append]
theorem num_1 {g : Nat → Nat → Value} {c0 s0 : Nat} {two : Nat → Int64} {d : Nat} {t : List Nat} {c : Nat} (h1 : 10 ≤ c) (h2 : c < 100) (ht : t.length + 6 < 1999) : am_M (d + 4) 10 [.ref 4798283777, .ref 124772155947, .int (Int32.ofNat c)] (HWt g c0 s0 t two) = some (none, HWt g c0 s0 (t ++ dg c) two) := by
  have ed : dg c = [48 + c / 10 % 10, 48 + c % 10] := by
    unfold dg
    rw [if_neg (by omega), if_neg (by omega), if_neg (by omega), if_pos (by omega)]
    rfl
  have k0 : (Int32.ofNat c ≤ 9) = False := (n_lel c 9 (by omega) (by decide)).trans (eq_false (show ¬ (¬ (9 < c)) by omega))
  have k1 : (Int32.ofNat c ≤ 99) = True := (n_lel c 99 (by omega) (by decide)).trans (eq_true (show (¬ (99 < c)) by omega))
  have k2 : (Int32.ofNat c ≤ 999) = True := (n_lel c 999 (by omega) (by decide)).trans (eq_true (show (¬ (999 < c)) by omega))
  have k3 : (Int32.ofNat c ≤ 9999) = True := (n_lel c 9999 (by omega) (by decide)).trans (eq_true (show (¬ (9999 < c)) by omega))
  have P0 := put_ok (g := g) (c0 := c0) (s0 := s0) (two := two) (d := d) (t := t) (b := 48 + c / 10 % 10) (by omega) (by (try simp only [List.length_append, List.length_cons, List.length_nil]); omega)
  have D0 : (48 : Int32) + (Int32.ofNat c / 10 - Int32.ofNat c / 10 / 10 * 10) = Int32.ofNat (48 + c / 10 % 10) := by rw [n_div (by omega) (by decide)]; rw [n_rem (by omega) (by decide)]; exact n_add (x := 48)
  have P1 := put_ok (g := g) (c0 := c0) (s0 := s0) (two := two) (d := d) (t := t ++ [48 + c / 10 % 10]) (b := 48 + c % 10) (by omega) (by (try simp only [List.length_append, List.length_cons, List.length_nil]); omega)
  have D1 : (48 : Int32) + (Int32.ofNat c - Int32.ofNat c / 10 * 10) = Int32.ofNat (48 + c % 10) := by rw [n_rem (by omega) (by decide)]; exact n_add (x := 48)
  have e : t ++ dg c = t ++ [48 + c / 10 % 10] ++ [48 + c % 10] := by rw [ed]; try simp only [List.append_assoc, List.cons_append, List.nil_append]
  rw [e, e10 rfl rfl]
  simp (disch := (refine id ?_; first | with_reducible assumption | with_reducible exact pb _ | with_unfolding_all exact rfl | with_unfolding_all exact Nat.le_of_ble_eq_true rfl | (simp only [am_cat_nil, am_cat_int, am_cat_ref, am_cat_null, am_cat_long, Nat.reduceAdd, Nat.reduceLeDiff]; done) | omega | exact i_bnd2 (by simp only [am_n, Nat.reduceDiv, Nat.reduceMod, Nat.reduceMul, Nat.reduceAdd]; omega) | decide | fail)) only [z10_0, z10_1, z10_4, z10_7, z10_7N, z10_8, z10_8N, z10_9, z10_11, z10_12, z10_15, z10_16, z10_17, z10_20, z10_21, z10_24, z10_27, z10_27N, z10_28, z10_28N, z10_29, z10_31, z10_32, z10_35, z10_36, z10_38, z10_39, z10_40, z10_43, z10_44, z10_46, z10_49, z10_49N, z10_50, z10_50N, z10_51, z10_53, z10_54, z10_56, z10_57, z10_59, z10_60, z10_61, z10_64, z10_65, z10_67, z10_70, z10_70N, z10_71, z10_71N, z10_72, z10_74, z10_75, z10_77, z10_78, z10_80, z10_81, z10_82, z10_85, z10_85N, z10_86, z10_86N, z10_87, z10_89, z10_90, z10_92, z10_93, z10_94, z10_97, k0, k1, k2, k3, P0, P1, D0, D1, ↓reduceIte, i_10, i_00, am_then_some, am_tl1, am_tl0, i_addl, ad2, Nat.reduceAdd, Int32.reduceToNatClampNeg, List.nil_append]
theorem num_2 {g : Nat → Nat → Value} {c0 s0 : Nat} {two : Nat → Int64} {d : Nat} {t : List Nat} {c : Nat} (h1 : 100 ≤ c) (h2 : c < 1000) (ht : t.length + 6 < 1999) : am_M (d + 4) 10 [.ref 4798283777, .ref 124772155947, .int (Int32.ofNat c)] (HWt g c0 s0 t two) = some (none, HWt g c0 s0 (t ++ dg c) two) := by
  have ed : dg c = [48 + c / 100 % 10, 48 + c / 10 % 10, 48 + c % 10] := by
    unfold dg
    rw [if_neg (by omega), if_neg (by omega), if_pos (by omega), if_pos (by omega)]
    rfl
  have k0 : (Int32.ofNat c ≤ 9) = False := (n_lel c 9 (by omega) (by decide)).trans (eq_false (show ¬ (¬ (9 < c)) by omega))
  have k1 : (Int32.ofNat c ≤ 99) = False := (n_lel c 99 (by omega) (by decide)).trans (eq_false (show ¬ (¬ (99 < c)) by omega))
  have k2 : (Int32.ofNat c ≤ 999) = True := (n_lel c 999 (by omega) (by decide)).trans (eq_true (show (¬ (999 < c)) by omega))
  have k3 : (Int32.ofNat c ≤ 9999) = True := (n_lel c 9999 (by omega) (by decide)).trans (eq_true (show (¬ (9999 < c)) by omega))
  have P0 := put_ok (g := g) (c0 := c0) (s0 := s0) (two := two) (d := d) (t := t) (b := 48 + c / 100 % 10) (by omega) (by (try simp only [List.length_append, List.length_cons, List.length_nil]); omega)
  have D0 : (48 : Int32) + (Int32.ofNat c / 100 - Int32.ofNat c / 100 / 10 * 10) = Int32.ofNat (48 + c / 100 % 10) := by rw [n_div (by omega) (by decide)]; rw [n_rem (by omega) (by decide)]; exact n_add (x := 48)
  have P1 := put_ok (g := g) (c0 := c0) (s0 := s0) (two := two) (d := d) (t := t ++ [48 + c / 100 % 10]) (b := 48 + c / 10 % 10) (by omega) (by (try simp only [List.length_append, List.length_cons, List.length_nil]); omega)
  have D1 : (48 : Int32) + (Int32.ofNat c / 10 - Int32.ofNat c / 10 / 10 * 10) = Int32.ofNat (48 + c / 10 % 10) := by rw [n_div (by omega) (by decide)]; rw [n_rem (by omega) (by decide)]; exact n_add (x := 48)
  have P2 := put_ok (g := g) (c0 := c0) (s0 := s0) (two := two) (d := d) (t := t ++ [48 + c / 100 % 10] ++ [48 + c / 10 % 10]) (b := 48 + c % 10) (by omega) (by (try simp only [List.length_append, List.length_cons, List.length_nil]); omega)
  have D2 : (48 : Int32) + (Int32.ofNat c - Int32.ofNat c / 10 * 10) = Int32.ofNat (48 + c % 10) := by rw [n_rem (by omega) (by decide)]; exact n_add (x := 48)
  have e : t ++ dg c = t ++ [48 + c / 100 % 10] ++ [48 + c / 10 % 10] ++ [48 + c % 10] := by rw [ed]; try simp only [List.append_assoc, List.cons_append, List.nil_append]
  rw [e, e10 rfl rfl]
  simp (disch := (refine id ?_; first | with_reducible assumption | with_reducible exact pb _ | with_unfolding_all exact rfl | with_unfolding_all exact Nat.le_of_ble_eq_true rfl | (simp only [am_cat_nil, am_cat_int, am_cat_ref, am_cat_null, am_cat_long, Nat.reduceAdd, Nat.reduceLeDiff]; done) | omega | exact i_bnd2 (by simp only [am_n, Nat.reduceDiv, Nat.reduceMod, Nat.reduceMul, Nat.reduceAdd]; omega) | decide | fail)) only [z10_0, z10_1, z10_4, z10_7, z10_7N, z10_8, z10_8N, z10_9, z10_11, z10_12, z10_15, z10_16, z10_17, z10_20, z10_21, z10_24, z10_27, z10_27N, z10_28, z10_28N, z10_29, z10_31, z10_32, z10_35, z10_36, z10_38, z10_39, z10_40, z10_43, z10_44, z10_46, z10_49, z10_49N, z10_50, z10_50N, z10_51, z10_53, z10_54, z10_56, z10_57, z10_59, z10_60, z10_61, z10_64, z10_65, z10_67, z10_70, z10_70N, z10_71, z10_71N, z10_72, z10_74, z10_75, z10_77, z10_78, z10_80, z10_81, z10_82, z10_85, z10_85N, z10_86, z10_86N, z10_87, z10_89, z10_90, z10_92, z10_93, z10_94, z10_97, k0, k1, k2, k3, P0, P1, P2, D0, D1, D2, ↓reduceIte, i_10, i_00, am_then_some, am_tl1, am_tl0, i_addl, ad2, Nat.reduceAdd, Int32.reduceToNatClampNeg, List.nil_append]
theorem num_3 {g : Nat → Nat → Value} {c0 s0 : Nat} {two : Nat → Int64} {d : Nat} {t : List Nat} {c : Nat} (h1 : 1000 ≤ c) (h2 : c < 10000) (ht : t.length + 6 < 1999) : am_M (d + 4) 10 [.ref 4798283777, .ref 124772155947, .int (Int32.ofNat c)] (HWt g c0 s0 t two) = some (none, HWt g c0 s0 (t ++ dg c) two) := by
  have ed : dg c = [48 + c / 1000 % 10, 48 + c / 100 % 10, 48 + c / 10 % 10, 48 + c % 10] := by
    unfold dg
    rw [if_neg (by omega), if_pos (by omega), if_pos (by omega), if_pos (by omega)]
    rfl
  have k0 : (Int32.ofNat c ≤ 9) = False := (n_lel c 9 (by omega) (by decide)).trans (eq_false (show ¬ (¬ (9 < c)) by omega))
  have k1 : (Int32.ofNat c ≤ 99) = False := (n_lel c 99 (by omega) (by decide)).trans (eq_false (show ¬ (¬ (99 < c)) by omega))
  have k2 : (Int32.ofNat c ≤ 999) = False := (n_lel c 999 (by omega) (by decide)).trans (eq_false (show ¬ (¬ (999 < c)) by omega))
  have k3 : (Int32.ofNat c ≤ 9999) = True := (n_lel c 9999 (by omega) (by decide)).trans (eq_true (show (¬ (9999 < c)) by omega))
  have P0 := put_ok (g := g) (c0 := c0) (s0 := s0) (two := two) (d := d) (t := t) (b := 48 + c / 1000 % 10) (by omega) (by (try simp only [List.length_append, List.length_cons, List.length_nil]); omega)
  have D0 : (48 : Int32) + (Int32.ofNat c / 1000 - Int32.ofNat c / 1000 / 10 * 10) = Int32.ofNat (48 + c / 1000 % 10) := by rw [n_div (by omega) (by decide)]; rw [n_rem (by omega) (by decide)]; exact n_add (x := 48)
  have P1 := put_ok (g := g) (c0 := c0) (s0 := s0) (two := two) (d := d) (t := t ++ [48 + c / 1000 % 10]) (b := 48 + c / 100 % 10) (by omega) (by (try simp only [List.length_append, List.length_cons, List.length_nil]); omega)
  have D1 : (48 : Int32) + (Int32.ofNat c / 100 - Int32.ofNat c / 100 / 10 * 10) = Int32.ofNat (48 + c / 100 % 10) := by rw [n_div (by omega) (by decide)]; rw [n_rem (by omega) (by decide)]; exact n_add (x := 48)
  have P2 := put_ok (g := g) (c0 := c0) (s0 := s0) (two := two) (d := d) (t := t ++ [48 + c / 1000 % 10] ++ [48 + c / 100 % 10]) (b := 48 + c / 10 % 10) (by omega) (by (try simp only [List.length_append, List.length_cons, List.length_nil]); omega)
  have D2 : (48 : Int32) + (Int32.ofNat c / 10 - Int32.ofNat c / 10 / 10 * 10) = Int32.ofNat (48 + c / 10 % 10) := by rw [n_div (by omega) (by decide)]; rw [n_rem (by omega) (by decide)]; exact n_add (x := 48)
  have P3 := put_ok (g := g) (c0 := c0) (s0 := s0) (two := two) (d := d) (t := t ++ [48 + c / 1000 % 10] ++ [48 + c / 100 % 10] ++ [48 + c / 10 % 10]) (b := 48 + c % 10) (by omega) (by (try simp only [List.length_append, List.length_cons, List.length_nil]); omega)
  have D3 : (48 : Int32) + (Int32.ofNat c - Int32.ofNat c / 10 * 10) = Int32.ofNat (48 + c % 10) := by rw [n_rem (by omega) (by decide)]; exact n_add (x := 48)
  have e : t ++ dg c = t ++ [48 + c / 1000 % 10] ++ [48 + c / 100 % 10] ++ [48 + c / 10 % 10] ++ [48 + c % 10] := by rw [ed]; try simp only [List.append_assoc, List.cons_append, List.nil_append]
  rw [e, e10 rfl rfl]
  simp (disch := (refine id ?_; first | with_reducible assumption | with_reducible exact pb _ | with_unfolding_all exact rfl | with_unfolding_all exact Nat.le_of_ble_eq_true rfl | (simp only [am_cat_nil, am_cat_int, am_cat_ref, am_cat_null, am_cat_long, Nat.reduceAdd, Nat.reduceLeDiff]; done) | omega | exact i_bnd2 (by simp only [am_n, Nat.reduceDiv, Nat.reduceMod, Nat.reduceMul, Nat.reduceAdd]; omega) | decide | fail)) only [z10_0, z10_1, z10_4, z10_7, z10_7N, z10_8, z10_8N, z10_9, z10_11, z10_12, z10_15, z10_16, z10_17, z10_20, z10_21, z10_24, z10_27, z10_27N, z10_28, z10_28N, z10_29, z10_31, z10_32, z10_35, z10_36, z10_38, z10_39, z10_40, z10_43, z10_44, z10_46, z10_49, z10_49N, z10_50, z10_50N, z10_51, z10_53, z10_54, z10_56, z10_57, z10_59, z10_60, z10_61, z10_64, z10_65, z10_67, z10_70, z10_70N, z10_71, z10_71N, z10_72, z10_74, z10_75, z10_77, z10_78, z10_80, z10_81, z10_82, z10_85, z10_85N, z10_86, z10_86N, z10_87, z10_89, z10_90, z10_92, z10_93, z10_94, z10_97, k0, k1, k2, k3, P0, P1, P2, P3, D0, D1, D2, D3, ↓reduceIte, i_10, i_00, am_then_some, am_tl1, am_tl0, i_addl, ad2, Nat.reduceAdd, Int32.reduceToNatClampNeg, List.nil_append]
theorem num_4 {g : Nat → Nat → Value} {c0 s0 : Nat} {two : Nat → Int64} {d : Nat} {t : List Nat} {c : Nat} (h1 : 10000 ≤ c) (h2 : c < 100000) (ht : t.length + 6 < 1999) : am_M (d + 4) 10 [.ref 4798283777, .ref 124772155947, .int (Int32.ofNat c)] (HWt g c0 s0 t two) = some (none, HWt g c0 s0 (t ++ dg c) two) := by
  have ed : dg c = [48 + c / 10000, 48 + c / 1000 % 10, 48 + c / 100 % 10, 48 + c / 10 % 10, 48 + c % 10] := by
    unfold dg
    rw [if_pos (by omega), if_pos (by omega), if_pos (by omega), if_pos (by omega)]
    rfl
  have k0 : (Int32.ofNat c ≤ 9) = False := (n_lel c 9 (by omega) (by decide)).trans (eq_false (show ¬ (¬ (9 < c)) by omega))
  have k1 : (Int32.ofNat c ≤ 99) = False := (n_lel c 99 (by omega) (by decide)).trans (eq_false (show ¬ (¬ (99 < c)) by omega))
  have k2 : (Int32.ofNat c ≤ 999) = False := (n_lel c 999 (by omega) (by decide)).trans (eq_false (show ¬ (¬ (999 < c)) by omega))
  have k3 : (Int32.ofNat c ≤ 9999) = False := (n_lel c 9999 (by omega) (by decide)).trans (eq_false (show ¬ (¬ (9999 < c)) by omega))
  have P0 := put_ok (g := g) (c0 := c0) (s0 := s0) (two := two) (d := d) (t := t) (b := 48 + c / 10000) (by omega) (by (try simp only [List.length_append, List.length_cons, List.length_nil]); omega)
  have D0 : (48 : Int32) + Int32.ofNat c / 10000 = Int32.ofNat (48 + c / 10000) := by rw [n_div (by omega) (by decide)]; exact n_add (x := 48)
  have P1 := put_ok (g := g) (c0 := c0) (s0 := s0) (two := two) (d := d) (t := t ++ [48 + c / 10000]) (b := 48 + c / 1000 % 10) (by omega) (by (try simp only [List.length_append, List.length_cons, List.length_nil]); omega)
  have D1 : (48 : Int32) + (Int32.ofNat c / 1000 - Int32.ofNat c / 1000 / 10 * 10) = Int32.ofNat (48 + c / 1000 % 10) := by rw [n_div (by omega) (by decide)]; rw [n_rem (by omega) (by decide)]; exact n_add (x := 48)
  have P2 := put_ok (g := g) (c0 := c0) (s0 := s0) (two := two) (d := d) (t := t ++ [48 + c / 10000] ++ [48 + c / 1000 % 10]) (b := 48 + c / 100 % 10) (by omega) (by (try simp only [List.length_append, List.length_cons, List.length_nil]); omega)
  have D2 : (48 : Int32) + (Int32.ofNat c / 100 - Int32.ofNat c / 100 / 10 * 10) = Int32.ofNat (48 + c / 100 % 10) := by rw [n_div (by omega) (by decide)]; rw [n_rem (by omega) (by decide)]; exact n_add (x := 48)
  have P3 := put_ok (g := g) (c0 := c0) (s0 := s0) (two := two) (d := d) (t := t ++ [48 + c / 10000] ++ [48 + c / 1000 % 10] ++ [48 + c / 100 % 10]) (b := 48 + c / 10 % 10) (by omega) (by (try simp only [List.length_append, List.length_cons, List.length_nil]); omega)
  have D3 : (48 : Int32) + (Int32.ofNat c / 10 - Int32.ofNat c / 10 / 10 * 10) = Int32.ofNat (48 + c / 10 % 10) := by rw [n_div (by omega) (by decide)]; rw [n_rem (by omega) (by decide)]; exact n_add (x := 48)
  have P4 := put_ok (g := g) (c0 := c0) (s0 := s0) (two := two) (d := d) (t := t ++ [48 + c / 10000] ++ [48 + c / 1000 % 10] ++ [48 + c / 100 % 10] ++ [48 + c / 10 % 10]) (b := 48 + c % 10) (by omega) (by (try simp only [List.length_append, List.length_cons, List.length_nil]); omega)
  have D4 : (48 : Int32) + (Int32.ofNat c - Int32.ofNat c / 10 * 10) = Int32.ofNat (48 + c % 10) := by rw [n_rem (by omega) (by decide)]; exact n_add (x := 48)
  have e : t ++ dg c = t ++ [48 + c / 10000] ++ [48 + c / 1000 % 10] ++ [48 + c / 100 % 10] ++ [48 + c / 10 % 10] ++ [48 + c % 10] := by rw [ed]; try simp only [List.append_assoc, List.cons_append, List.nil_append]
  rw [e, e10 rfl rfl]
  simp (disch := (refine id ?_; first | with_reducible assumption | with_reducible exact pb _ | with_unfolding_all exact rfl | with_unfolding_all exact Nat.le_of_ble_eq_true rfl | (simp only [am_cat_nil, am_cat_int, am_cat_ref, am_cat_null, am_cat_long, Nat.reduceAdd, Nat.reduceLeDiff]; done) | omega | exact i_bnd2 (by simp only [am_n, Nat.reduceDiv, Nat.reduceMod, Nat.reduceMul, Nat.reduceAdd]; omega) | decide | fail)) only [z10_0, z10_1, z10_4, z10_7, z10_7N, z10_8, z10_8N, z10_9, z10_11, z10_12, z10_15, z10_16, z10_17, z10_20, z10_21, z10_24, z10_27, z10_27N, z10_28, z10_28N, z10_29, z10_31, z10_32, z10_35, z10_36, z10_38, z10_39, z10_40, z10_43, z10_44, z10_46, z10_49, z10_49N, z10_50, z10_50N, z10_51, z10_53, z10_54, z10_56, z10_57, z10_59, z10_60, z10_61, z10_64, z10_65, z10_67, z10_70, z10_70N, z10_71, z10_71N, z10_72, z10_74, z10_75, z10_77, z10_78, z10_80, z10_81, z10_82, z10_85, z10_85N, z10_86, z10_86N, z10_87, z10_89, z10_90, z10_92, z10_93, z10_94, z10_97, k0, k1, k2, k3, P0, P1, P2, P3, P4, D0, D1, D2, D3, D4, ↓reduceIte, i_10, i_00, am_then_some, am_tl1, am_tl0, i_addl, ad2, Nat.reduceAdd, Int32.reduceToNatClampNeg, List.nil_append]
theorem num_ok {g : Nat → Nat → Value} {c0 s0 : Nat} {two : Nat → Int64} {d : Nat} {t : List Nat} {c : Nat} (h : c < 100000) (ht : t.length + 6 < 1999) : am_M (d + 4) 10 [.ref 4798283777, .ref 124772155947, .int (Int32.ofNat c)] (HWt g c0 s0 t two) = some (none, HWt g c0 s0 (t ++ dg c) two) := by
  by_cases a : c < 10
  · exact num_0 (by omega) a ht
  by_cases b : c < 100
  · exact num_1 (by omega) b ht
  by_cases e : c < 1000
  · exact num_2 (by omega) e ht
  by_cases f : c < 10000
  · exact num_3 (by omega) f ht
  exact num_4 (by omega) h ht
