/-! put, word, variable, number (printed by gen/feed2.py) -/
set_option maxRecDepth 100000
set_option maxHeartbeats 400000
theorem put_core {g : Nat → Nat → Value} {c0 s0 : Nat} {two : Nat → Int64} {d : Nat} {t : List Nat} {b i : Nat} {l4 : Option Value} (hb : b < 128) (ht : t.length < 1999) (hi : t.length % 20 = i) : am_G (d + 2) 1 34 [some (.ref 4798283777), some (.ref 124772155947), some (.int (Int32.ofNat b)), some (.int (Int32.ofNat i)), l4] [] (HW g c0 s0 (bk t) (bF (TF ((cl t).take (bk t)))) (qR t.length ((cl t).drop (bk t))) two) = some (none, HWt g c0 s0 (t ++ [b]) two) := by
  have h20 : i < 20 := by omega
  have hbk : bk t + i = t.length := by unfold bk; omega
  have hr : ((cl t).drop (bk t)).length = i := by rw [List.length_drop, cl_len]; omega
  have hb' : b % 128 = b := Nat.mod_eq_of_lt hb
  have hlen : (t ++ [b]).length = t.length + 1 := by rw [List.length_append]; rfl
  have hcl : cl (t ++ [b]) = cl t ++ [b] := by rw [cl_app]; show cl t ++ [b % 128] = _; rw [hb']
  have hqF : qF (t ++ [b]) = qR (t.length + 1) ((cl t).drop (bk t) ++ [b]) := by unfold qF; rw [blk_app, hb', hlen]
  obtain ⟨r, er⟩ : ∃ r, r = (cl t).drop (bk t) := ⟨_, rfl⟩
  have h8 : ∀ k, (r ++ [b]).getD k 0 < 128 := fun k => by
    have := dr_getD (t := t ++ [b]) (i := bk t) (k := k)
    rw [hcl, List.drop_append_of_le_length (by rw [cl_len]; omega), ← er] at this
    exact this
  have pb : ∀ k, pk (r ++ [b]) k < 2147483648 := fun k => pkb h8 k
  have e1 : ∀ m : Nat, m = i → HWt g c0 s0 (t ++ [b]) two = HW g c0 s0 (bk (t ++ [b])) (bF (TF ((cl (t ++ [b])).take (bk (t ++ [b]))))) (qR (t.length + 1) (r ++ [b])) two := fun _ _ => by unfold HWt; rw [hqF, er]
  have e1 := e1 i rfl
  rw [← er] at hr ⊢
  have a1 : (1 : Int32) + Int32.ofNat i / 4 = Int32.ofNat (1 + i / 4) := by rw [n_div (by omega) (by decide)]; exact n_add (x := 1)
  have a2 : (24 : Int32) - 8 * (Int32.ofNat i - Int32.ofNat i / 4 * 4) = Int32.ofNat (24 - 8 * (i % 4)) := by
    rw [n_rem (by omega) (by decide)]
    show Int32.ofNat 24 - Int32.ofNat 8 * Int32.ofNat (i % 4) = _
    rw [n_mul, n_subn _ _ (by omega)]
  have a3 : Int32.ofNat b &&& 255 = Int32.ofNat b := by rw [n_and255 (by omega), Nat.mod_eq_of_lt (by omega)]
  have a4 : (Int32.ofNat b).toInt64 <<< ((Int32.ofNat (24 - 8 * (i % 4))).toInt64 &&& 63) = Int64.ofNat (b * 2 ^ (24 - 8 * (i % 4))) := by
    rw [n_i64 (by omega)]
    have : ∀ k : Nat, k < 25 → (Int32.ofNat k).toInt64 &&& 63 = Int64.ofNat k := by decide
    exact l64_shl _ hb (by omega) _ (this _ (by omega))
  have a5 : qR t.length r (1 + i / 4) ||| Int64.ofNat (b * 2 ^ (24 - 8 * (i % 4))) = Int64.ofNat (pk (r ++ [b]) (4 * (i / 4))) := by
    have : qR t.length r (1 + i / 4) = Int64.ofNat (pk r (4 * (i / 4))) := by
      unfold qR
      rw [if_neg (by omega), if_pos (by omega), show 1 + i / 4 - 1 = i / 4 by omega]
    rw [this, l64_or, pk_put hr hb]
  have a6 : ∀ X : Int64, up (qR t.length r) (1 + i / 4) X 0 = Int64.ofNat t.length := fun X => up_ne (by omega)
  have a7 : Int64.ofNat t.length + 1 = Int64.ofNat (t.length + 1) := j_add (b := 1)
  have a8 := qR_put (n := t.length) (b := b) hr h20
  have c19 : (Int32.ofNat i = 19) = (i = 19) := n_eql i 19 (by omega) (by decide)
  have b1 : ¬ (Int32.ofNat (1 + i / 4) < 0 ∨ am_n 124772155947 ≤ (Int32.ofNat (1 + i / 4)).toNatClampNeg) := i_bnd2 (by simp only [am_n, Nat.reduceDiv, Nat.reduceMod]; omega)
  have t1 : (Int32.ofNat (1 + i / 4)).toNatClampNeg = 1 + i / 4 := tn_of (by omega)
  obtain ⟨u, hu⟩ : ∃ u, i / 4 = u := ⟨_, rfl⟩
  obtain ⟨w, hw⟩ : ∃ w, i % 4 = w := ⟨_, rfl⟩
  rw [hu] at a1 a5 a6 a8 b1 t1
  rw [hw] at a2 a4 a5
  by_cases h19 : i = 19
  · have F := feed_l (g := g) (c0 := c0) (s0 := s0) (two := two) (q := qR (t.length + 1) (r ++ [b])) (m := (cl t).take (bk t)) (r := r ++ [b]) (by rw [List.length_append, hr]; show i + 1 = 20; omega) h8 (by rw [List.length_take, cl_len]; omega) (d := d)
    have l1 : ((cl t).take (bk t)).length = bk t := by rw [List.length_take, cl_len]; omega
    have l2 : bk (t ++ [b]) = bk t + 20 := by unfold bk at hbk ⊢; omega
    have l3 : (cl (t ++ [b])).take (bk (t ++ [b])) = (cl t).take (bk t) ++ (r ++ [b]) := by
      rw [List.take_of_length_le (by rw [cl_len]; omega), hcl, ← List.append_assoc, er, List.take_append_drop]
    rw [l1] at F
    rw [e1, l3, l2]
    have h19' := c19.trans (eq_true h19)
    simp (disch := (refine id ?_; first | with_reducible assumption | with_reducible exact pb _ | with_unfolding_all exact rfl | with_unfolding_all exact Nat.le_of_ble_eq_true rfl | (simp only [am_cat_nil, am_cat_int, am_cat_ref, am_cat_null, am_cat_long, Nat.reduceAdd, Nat.reduceLeDiff]; done) | omega | exact i_bnd2 (by simp only [am_n, Nat.reduceDiv, Nat.reduceMod, Nat.reduceMul, Nat.reduceAdd]; omega) | decide | fail)) only [z1_34, z1_34N, z1_35, z1_36, z1_37, z1_38, z1_39, z1_40, z1_40N, z1_41, z1_42, z1_43, z1_44, z1_45, z1_46, z1_47, z1_48, z1_51, z1_52, z1_53, z1_55, z1_57, z1_58, z1_59, z1_60, z1_61, z1_62, z1_63, z1_64, z1_65, z1_65N, z1_66, z1_67, z1_67N, z1_68, z1_69, z1_70, z1_71, z1_72, z1_73, z1_74, z1_76, z1_79, z1_79N, z1_80, z1_80N, z1_81, z1_82, z1_83, z1_84, z1_84N, z1_85, z1_86, z1_87, z1_88, z1_88N, z1_89, z1_90, z1_91, z1_92, z1_92N, z1_93, z1_94, z1_95, z1_96, z1_96N, z1_97, z1_98, z1_99, z1_100, z1_103, z1_103I, z1_104, HW_r0, HW_r1, HW_a0, HW_a1, HW_a2, HW_w1, HW_b0, HW_b1, HW_b2, a1, a2, a3, a4, a5, a6, a7, a8, h19', t1, b1, F, l64_32, qR_0, qR_1, qR_2, qR_3, qR_4, qR_5, ↓reduceIte, i_10, i_00, am_then_some, am_tl1, am_tl0, i_addl, ad2, Nat.reduceAdd, Int32.reduceToNatClampNeg, List.nil_append]
  · have l2 : bk (t ++ [b]) = bk t := by unfold bk at hbk ⊢; omega
    have l3 : (cl (t ++ [b])).take (bk t) = (cl t).take (bk t) := by rw [hcl, List.take_append_of_le_length (by rw [cl_len]; omega)]
    rw [e1, l2, l3]
    have h19' := c19.trans (eq_false h19)
    simp (disch := (refine id ?_; first | with_reducible assumption | with_reducible exact pb _ | with_unfolding_all exact rfl | with_unfolding_all exact Nat.le_of_ble_eq_true rfl | (simp only [am_cat_nil, am_cat_int, am_cat_ref, am_cat_null, am_cat_long, Nat.reduceAdd, Nat.reduceLeDiff]; done) | omega | exact i_bnd2 (by simp only [am_n, Nat.reduceDiv, Nat.reduceMod, Nat.reduceMul, Nat.reduceAdd]; omega) | decide | fail)) only [z1_34, z1_34N, z1_35, z1_36, z1_37, z1_38, z1_39, z1_40, z1_40N, z1_41, z1_42, z1_43, z1_44, z1_45, z1_46, z1_47, z1_48, z1_51, z1_52, z1_53, z1_55, z1_57, z1_58, z1_59, z1_60, z1_61, z1_62, z1_63, z1_64, z1_65, z1_65N, z1_66, z1_67, z1_67N, z1_68, z1_69, z1_70, z1_71, z1_72, z1_73, z1_74, z1_76, z1_79, z1_79N, z1_80, z1_80N, z1_81, z1_82, z1_83, z1_84, z1_84N, z1_85, z1_86, z1_87, z1_88, z1_88N, z1_89, z1_90, z1_91, z1_92, z1_92N, z1_93, z1_94, z1_95, z1_96, z1_96N, z1_97, z1_98, z1_99, z1_100, z1_103, z1_103I, z1_104, HW_r0, HW_r1, HW_a0, HW_a1, HW_a2, HW_w1, HW_b0, HW_b1, HW_b2, a1, a2, a3, a4, a5, a6, a7, a8, h19', t1, b1, ↓reduceIte, i_10, i_00, am_then_some, am_tl1, am_tl0, i_addl, ad2, Nat.reduceAdd, Int32.reduceToNatClampNeg, List.nil_append]
theorem put_clr  {t : List Nat} (h : t.length % 20 = 0) : up (up (up (up (up (qF t) 1 0) 2 0) 3 0) 4 0) 5 0 = qR t.length ((cl t).drop (bk t)) := by
  have e : (cl t).drop (bk t) = [] := List.drop_eq_nil_of_le (by rw [cl_len]; unfold bk; omega)
  rw [e]
  funext j
  show (if j = 5 then (0 : Int64) else if j = 4 then 0 else if j = 3 then 0 else if j = 2 then 0 else if j = 1 then 0 else qF t j) = _
  by_cases h0 : j = 0
  · rw [if_neg (by omega), if_neg (by omega), if_neg (by omega), if_neg (by omega), if_neg (by omega)]
    unfold qF qR
    rw [if_pos h0, if_pos h0]
  · by_cases h6 : j < 6
    · have e1 : qR t.length [] j = 0 := by
        unfold qR
        rw [if_neg h0, if_pos h6]
        have g : ∀ k, ([] : List Nat).getD k 0 = 0 := fun _ => rfl
        have : pk [] (4 * (j - 1)) = 0 := by
          unfold pk
          rw [g, g, g, g]
        rw [this]
        decide
      rw [e1]
      by_cases a5 : j = 5
      · rw [if_pos a5]
      by_cases a4 : j = 4
      · rw [if_neg a5, if_pos a4]
      by_cases a3 : j = 3
      · rw [if_neg a5, if_neg a4, if_pos a3]
      by_cases a2 : j = 2
      · rw [if_neg a5, if_neg a4, if_neg a3, if_pos a2]
      rw [if_neg a5, if_neg a4, if_neg a3, if_neg a2, if_pos (by omega)]
    · rw [if_neg (by omega), if_neg (by omega), if_neg (by omega), if_neg (by omega), if_neg (by omega)]
      unfold qF qR
      rw [if_neg h0, if_neg h6, if_neg h0, if_neg h6]
theorem put_ok {g : Nat → Nat → Value} {c0 s0 : Nat} {two : Nat → Int64} {d : Nat} {t : List Nat} {b : Nat} (hb : b < 128) (ht : t.length < 1999) : am_M (d + 3) 1 [.ref 4798283777, .ref 124772155947, .int (Int32.ofNat b)] (HWt g c0 s0 t two) = some (none, HWt g c0 s0 (t ++ [b]) two) := by
  obtain ⟨i, hi⟩ : ∃ i, t.length % 20 = i := ⟨_, rfl⟩
  have j1 : (Int64.ofNat t.length - Int64.ofNat t.length / 20 * 20).toInt32 = Int32.ofNat i := by rw [j_rem20 (by omega), hi]
  have q0 : qF t 0 = Int64.ofNat t.length := rfl
  by_cases h0 : i = 0
  · have z0 : (Int32.ofNat i = 0) = True := by rw [h0]; simp
    have C := fun l4 => put_core (g := g) (c0 := c0) (s0 := s0) (two := two) (d := d) (t := t) (b := b) (i := i) (l4 := l4) hb ht hi
    have cc := put_clr (t := t) (by omega)
    rw [e1 rfl rfl]
    unfold HWt at C ⊢
    simp (disch := (refine id ?_; first | with_reducible assumption | with_reducible exact pb _ | with_unfolding_all exact rfl | with_unfolding_all exact Nat.le_of_ble_eq_true rfl | (simp only [am_cat_nil, am_cat_int, am_cat_ref, am_cat_null, am_cat_long, Nat.reduceAdd, Nat.reduceLeDiff]; done) | omega | exact i_bnd2 (by simp only [am_n, Nat.reduceDiv, Nat.reduceMod, Nat.reduceMul, Nat.reduceAdd]; omega) | decide | fail)) only [z1_0, z1_0N, z1_1, z1_2, z1_3, z1_6, z1_7, z1_8, z1_9, z1_10, z1_13, z1_14, z1_16, z1_18, z1_20, z1_23, z1_23N, z1_24, z1_26, z1_27, z1_28, z1_31, HW_r0, HW_r1, HW_a0, HW_a1, HW_a2, HW_w1, HW_b0, HW_b1, HW_b2, j1, q0, z0, i_lell, Nat.reduceLeDiff, cc, C, Int32.reduceAdd, ↓reduceIte, i_10, i_00, am_then_some, am_tl1, am_tl0, i_addl, ad2, Nat.reduceAdd, Int32.reduceToNatClampNeg, List.nil_append]
  · have z0 : (Int32.ofNat i = 0) = False := (n_z (by omega)).trans (eq_false h0)
    have e : qF t = qR t.length ((cl t).drop (bk t)) := by
      unfold qF blk bk
      rw [show (t.length - 1) / 20 = t.length / 20 by omega]
    have C := fun l4 => put_core (g := g) (c0 := c0) (s0 := s0) (two := two) (d := d) (t := t) (b := b) (i := i) (l4 := l4) hb ht hi
    rw [← e] at C
    rw [e1 rfl rfl]
    unfold HWt at C ⊢
    simp (disch := (refine id ?_; first | with_reducible assumption | with_reducible exact pb _ | with_unfolding_all exact rfl | with_unfolding_all exact Nat.le_of_ble_eq_true rfl | (simp only [am_cat_nil, am_cat_int, am_cat_ref, am_cat_null, am_cat_long, Nat.reduceAdd, Nat.reduceLeDiff]; done) | omega | exact i_bnd2 (by simp only [am_n, Nat.reduceDiv, Nat.reduceMod, Nat.reduceMul, Nat.reduceAdd]; omega) | decide | fail)) only [z1_0, z1_0N, z1_1, z1_2, z1_3, z1_6, z1_7, z1_8, z1_9, z1_10, HW_r0, HW_r1, HW_a0, HW_a1, HW_a2, HW_w1, HW_b0, HW_b1, HW_b2, j1, q0, z0, C, ↓reduceIte, i_10, i_00, am_then_some, am_tl1, am_tl0, i_addl, ad2, Nat.reduceAdd, Int32.reduceToNatClampNeg, List.nil_append]
