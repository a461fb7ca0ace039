/-! the law's loop of doAll (printed by gen/run2.py) -/
set_option maxRecDepth 100000
set_option maxHeartbeats 8000000
theorem HK_low {g : Nat → Nat → Value} {c0 s0 N : Nat} {v : Nat → Int} {P : PT} {x k : Nat} (hx : am_i x < 286) : am_g (HK g c0 s0 N v P) x k = g x k := by
  have h := am_i_lt hx
  show (if x = 124788933419 then _ else if x = 124856169512 then _ else g x k) = g x k
  rw [if_neg (by omega), if_neg (by omega)]
theorem law_do {g : Nat → Nat → Value} {c0 s0 d sa : Nat} {sx : Nat → Int32} {pl il : Nat → Int64} {l9 l10 l13 : Option Value} (S : SCR g sa sx) (K : PLK sx pl il (scN sa)) (gp : ∀ k, g 124805713963 k = .long (pl k)) (gi : ∀ k, g 124822491179 k = .long (il k)) : ∀ (m k : Nat) (v : Nat → Int) (P : PT), k + m = scN sa → VRG v → QI P → P.st ≤ 3000 → P.ou.length + 20 * m ≤ 520 →
    ∃ k2 : Int32, am_G (d + 6) 0 313 [some (.ref sa), some (.ref 4798283777), some (.ref 124772155947), some (.ref 124788933419), some (.ref 124805713963), some (.ref 124822491179), some (.ref 124839264427), some (.ref 124856169512), some (.int (Int32.ofNat (scN sa))), l9, l10, some (.int 0), some (.int (Int32.ofNat k)), l13] [] (HK g c0 s0 3000 v P) = am_G (d + 6) 0 365 [some (.ref sa), some (.ref 4798283777), some (.ref 124772155947), some (.ref 124788933419), some (.ref 124805713963), some (.ref 124822491179), some (.ref 124839264427), some (.ref 124856169512), some (.int (Int32.ofNat (scN sa))), l9, l10, some (.int (Int32.ofNat (doR 3000 (csP (plN sx k) (cmR sx k m)) v P).1)), some (.int k2), l13] [] (HK g c0 s0 3000 (doR 3000 (csP (plN sx k) (cmR sx k m)) v P).2.1 (doR 3000 (csP (plN sx k) (cmR sx k m)) v P).2.2) := by
  have S' := S
  obtain ⟨s1, s2, s3, s4, s5⟩ := S'
  have hsc : scN sa = min 26 ((am_n sa + 1) / 2) := rfl
  have o0 : Int32.ofNat 0 = 0 := rfl
  intro m
  induction m with
  | zero =>
    intro k v P hk hv q hs ho
    have hk : k = scN sa := hk
    have c1 : (Int32.ofNat (scN sa) ≤ Int32.ofNat k) = True := (n_le (by omega) (by omega)).trans (eq_true (by omega))
    refine ⟨Int32.ofNat k, ?_⟩
    show _ = am_G (d + 6) 0 365 [some (.ref sa), some (.ref 4798283777), some (.ref 124772155947), some (.ref 124788933419), some (.ref 124805713963), some (.ref 124822491179), some (.ref 124839264427), some (.ref 124856169512), some (.int (Int32.ofNat (scN sa))), l9, l10, some (.int 0), some (.int (Int32.ofNat k)), l13] [] (HK g c0 s0 3000 v P)
    rw [z0_313]
    simp (config := {maxSteps := 10000000}) (disch := (refine id ?_; first | exact Nat.ne_of_beq_eq_false rfl | exact Nat.le_of_ble_eq_true rfl | with_unfolding_all exact rfl | with_unfolding_all exact Nat.le_of_ble_eq_true rfl | (simp only [am_cat_nil, am_cat_int, am_cat_ref, am_cat_null, am_cat_long, Nat.reduceAdd, Nat.reduceLeDiff]; done) | assumption | decide | fail)) only [z0_315, z0_317, c1, wm_eq, wm_ne, wm_b, wo_eq, wo_ne, wb_r, ws_eq, ws_ne, ws_b, lw1, lw2, lr1, lr2, ln2, up_eq, up_ne, up_up, fst_l, snd_l, am_al2, am_nl, i_eqll, i_10, i_00, Nat.reduceMul, Nat.reduceAdd, Nat.reduceDiv, Nat.reduceMod, Int32.reduceOfNat, Int32.reduceAdd, Int32.reduceSub, Int32.reduceMul, Int32.reduceLT, Int32.reduceLE, Int32.reduceToNatClampNeg, Nat.reduceEqDiff, Nat.reduceLeDiff, Nat.reduceLT, ↓reduceIte, not_true_eq_false, not_false_eq_true, ↓am_kc_f, am_kc_s, am_then_some, am_tl1, am_tl0, List.nil_append, ad2]
  | succ m ih =>
    intro k v P hk hv q hs ho
    have hk26 : k < 26 := by omega
    have hkl : 2 * k < am_n sa := by omega
    have ctl := cm_tl (cmOf_ok (x := sx (2 * k)) (y := sx (2 * k + 1)))
    have b2 := plN_le (sx := sx) (k := k) (by omega)
    have of1 := ofs_lt (cmOf_ok (x := sx (2 * k)) (y := sx (2 * k + 1)))
    have m2 : (2 : Int32) * Int32.ofNat k = Int32.ofNat (2 * k) := n_mul (a := 2)
    have m3 : Int32.ofNat (2 * k) + 1 = Int32.ofNat (2 * k + 1) := n_add (y := 1)
    have m4 : Int32.ofNat k + 1 = Int32.ofNat (k + 1) := n_add (y := 1)
    have c1 : (Int32.ofNat (scN sa) ≤ Int32.ofNat k) = False := (n_le (by omega) (by omega)).trans (eq_false (by omega))
    have b1 := n_bnd (n := 2 * k) (a := sa) hkl (by omega)
    have t1 : (Int32.ofNat (2 * k)).toNatClampNeg = 2 * k := tn_of (by omega)
    have t2 : (Int32.ofNat k).toNatClampNeg = k := tn_of (by omega)
    have bp : ¬ (Int32.ofNat k < 0 ∨ am_n 124805713963 ≤ (Int32.ofNat k).toNatClampNeg) := i_bnd2 (by simp only [am_n, Nat.reduceDiv, Nat.reduceMod]; omega)
    have bi : ¬ (Int32.ofNat k < 0 ∨ am_n 124822491179 ≤ (Int32.ofNat k).toNatClampNeg) := i_bnd2 (by simp only [am_n, Nat.reduceDiv, Nat.reduceMod]; omega)
    have r1 : am_g (HK g c0 s0 3000 v P) sa (2 * k) = .int (sx (2 * k)) := (HK_low s2).trans (s4 _ hkl)
    have rp : am_g (HK g c0 s0 3000 v P) 124805713963 k = .long (pl k) := gp k
    have ri : am_g (HK g c0 s0 3000 v P) 124822491179 k = .long (il k) := gi k
    have CE : am_M (d + 6) 4 [.ref sa, .int (Int32.ofNat (2 * k + 1))] (HK g c0 s0 3000 v P) = some (some (.int (sx (2 * k + 1))), HK g c0 s0 3000 v P) := by
      by_cases h : 2 * k + 1 < am_n sa
      · exact cell_in (d := d + 5) s1 (by omega) h ((HK_low s2).trans (s4 _ h))
      · rw [s5 _ h]
        exact cell_out (d := d + 5) s1 (by omega) h (by omega)
    have kp := K k (by omega)
    have pk1 := kp.1
    have D := da_ok (g := g) (c0 := c0) (s0 := s0) (d := d + 1) (N := 3000) (x := sx (2 * k)) (y := sx (2 * k + 1)) (pl := plN sx k) (pi := plN sx k + (cmOf (sx (2 * k)) (sx (2 * k + 1))).ofs) (q := il k) hv hs (by decide) (by omega) (by omega) kp.2 (by omega)
    rw [← pk1] at D
    have VD := doC_VE (L := 3000) (pl := plN sx k) (pi := plN sx k + (cmOf (sx (2 * k)) (sx (2 * k + 1))).ofs) (c := cmOf (sx (2 * k)) (sx (2 * k + 1))) cmOf_ok hv q
    have OD := doC_ou (L := 3000) (pl := plN sx k) (pi := plN sx k + (cmOf (sx (2 * k)) (sx (2 * k + 1))).ofs) (c := cmOf (sx (2 * k)) (sx (2 * k + 1))) (P := P) cmOf_ok (VR_100 hv)
    have SD := fun z => doC_st (L := 3000) (pl := plN sx k) (pi := plN sx k + (cmOf (sx (2 * k)) (sx (2 * k + 1))).ofs) (c := cmOf (sx (2 * k)) (sx (2 * k + 1))) (v := v) hs z
    have U : doR 3000 (csP (plN sx k) (cmR sx k (m + 1))) v P = if (doC 3000 (cmOf (sx (2 * k)) (sx (2 * k + 1))) (plN sx k) (plN sx k + (cmOf (sx (2 * k)) (sx (2 * k + 1))).ofs) v P).1 ≠ 0 then doC 3000 (cmOf (sx (2 * k)) (sx (2 * k + 1))) (plN sx k) (plN sx k + (cmOf (sx (2 * k)) (sx (2 * k + 1))).ofs) v P else doR 3000 (csP (plN sx (k + 1)) (cmR sx (k + 1) m)) (doC 3000 (cmOf (sx (2 * k)) (sx (2 * k + 1))) (plN sx k) (plN sx k + (cmOf (sx (2 * k)) (sx (2 * k + 1))).ofs) v P).2.1 (doC 3000 (cmOf (sx (2 * k)) (sx (2 * k + 1))) (plN sx k) (plN sx k + (cmOf (sx (2 * k)) (sx (2 * k + 1))).ofs) v P).2.2 := by
      rw [plN_s]
      rfl
    rw [U]
    generalize doC 3000 (cmOf (sx (2 * k)) (sx (2 * k + 1))) (plN sx k) (plN sx k + (cmOf (sx (2 * k)) (sx (2 * k + 1))).ofs) v P = r at D VD OD SD ⊢
    have D : am_M (d + 6) 11 [.ref 124788933419, .ref 124856169512, .int (sx (2 * k)), .int (sx (2 * k + 1)), .long (pl k), .long (il k)] (HK g c0 s0 3000 v P) = some (some (.int (Int32.ofNat r.1)), HK g c0 s0 3000 r.2.1 r.2.2) := D
    have ST : am_G (d + 6) 0 313 [some (.ref sa), some (.ref 4798283777), some (.ref 124772155947), some (.ref 124788933419), some (.ref 124805713963), some (.ref 124822491179), some (.ref 124839264427), some (.ref 124856169512), some (.int (Int32.ofNat (scN sa))), l9, l10, some (.int 0), some (.int (Int32.ofNat k)), l13] [] (HK g c0 s0 3000 v P) = am_G (d + 6) 0 313 [some (.ref sa), some (.ref 4798283777), some (.ref 124772155947), some (.ref 124788933419), some (.ref 124805713963), some (.ref 124822491179), some (.ref 124839264427), some (.ref 124856169512), some (.int (Int32.ofNat (scN sa))), l9, l10, some (.int (Int32.ofNat r.1)), some (.int (Int32.ofNat (k + 1))), l13] [] (HK g c0 s0 3000 r.2.1 r.2.2) := by
      rw [z0_313]
      simp (config := {maxSteps := 10000000}) (disch := (refine id ?_; first | exact Nat.ne_of_beq_eq_false rfl | exact Nat.le_of_ble_eq_true rfl | with_unfolding_all exact rfl | with_unfolding_all exact Nat.le_of_ble_eq_true rfl | (simp only [am_cat_nil, am_cat_int, am_cat_ref, am_cat_null, am_cat_long, Nat.reduceAdd, Nat.reduceLeDiff]; done) | assumption | decide | fail)) only [z0_315, z0_317, z0_320, z0_322, z0_325, z0_325N, z0_326, z0_326N, z0_328, z0_328N, z0_329, z0_330, z0_332, z0_333, z0_334, z0_334N, z0_335, z0_336, z0_338, z0_339, z0_340, z0_341, z0_344, z0_344N, z0_346, z0_348, z0_349, z0_349N, z0_351, z0_353, z0_354, z0_357, z0_359, z0_362, c1, m2, m3, m4, b1, t1, t2, bp, bi, r1, rp, ri, CE, D, o0, wm_eq, wm_ne, wm_b, wo_eq, wo_ne, wb_r, ws_eq, ws_ne, ws_b, lw1, lw2, lr1, lr2, ln2, up_eq, up_ne, up_up, fst_l, snd_l, am_al2, am_nl, i_eqll, i_10, i_00, Nat.reduceMul, Nat.reduceAdd, Nat.reduceDiv, Nat.reduceMod, Int32.reduceOfNat, Int32.reduceAdd, Int32.reduceSub, Int32.reduceMul, Int32.reduceLT, Int32.reduceLE, Int32.reduceToNatClampNeg, Nat.reduceEqDiff, Nat.reduceLeDiff, Nat.reduceLT, ↓reduceIte, not_true_eq_false, not_false_eq_true, ↓am_kc_f, am_kc_s, am_then_some, am_tl1, am_tl0, List.nil_append, ad2]
    by_cases e : r.1 = 0
    · have e' : ¬ (r.1 ≠ 0) := fun z => z e
      rw [if_neg e']
      obtain ⟨k2, I⟩ := ih (k + 1) r.2.1 r.2.2 (by omega) VD.1 VD.2.1 (SD (by omega)) (by omega)
      refine ⟨k2, ?_⟩
      rw [ST, e, o0, I]
    · rw [if_pos e]
      have c3 : (Int32.ofNat r.1 = 0) = False := by
        rcases VD.2.2 with h | h | h | h
        · exact absurd h e
        · rw [h]; decide
        · rw [h]; decide
        · rw [h]; decide
      refine ⟨Int32.ofNat (k + 1), ?_⟩
      rw [ST]
      by_cases f : k + 1 = scN sa
      · have c4 : (Int32.ofNat (scN sa) ≤ Int32.ofNat (k + 1)) = True := (n_le (by omega) (by omega)).trans (eq_true (by omega))
        simp (config := {maxSteps := 10000000}) (disch := (refine id ?_; first | exact Nat.ne_of_beq_eq_false rfl | exact Nat.le_of_ble_eq_true rfl | with_unfolding_all exact rfl | with_unfolding_all exact Nat.le_of_ble_eq_true rfl | (simp only [am_cat_nil, am_cat_int, am_cat_ref, am_cat_null, am_cat_long, Nat.reduceAdd, Nat.reduceLeDiff]; done) | assumption | decide | fail)) only [z0_313, z0_315, z0_317, z0_320, z0_322, c4, c3, wm_eq, wm_ne, wm_b, wo_eq, wo_ne, wb_r, ws_eq, ws_ne, ws_b, lw1, lw2, lr1, lr2, ln2, up_eq, up_ne, up_up, fst_l, snd_l, am_al2, am_nl, i_eqll, i_10, i_00, Nat.reduceMul, Nat.reduceAdd, Nat.reduceDiv, Nat.reduceMod, Int32.reduceOfNat, Int32.reduceAdd, Int32.reduceSub, Int32.reduceMul, Int32.reduceLT, Int32.reduceLE, Int32.reduceToNatClampNeg, Nat.reduceEqDiff, Nat.reduceLeDiff, Nat.reduceLT, ↓reduceIte, not_true_eq_false, not_false_eq_true, ↓am_kc_f, am_kc_s, am_then_some, am_tl1, am_tl0, List.nil_append, ad2]
      · have c4 : (Int32.ofNat (scN sa) ≤ Int32.ofNat (k + 1)) = False := (n_le (by omega) (by omega)).trans (eq_false (by omega))
        simp (config := {maxSteps := 10000000}) (disch := (refine id ?_; first | exact Nat.ne_of_beq_eq_false rfl | exact Nat.le_of_ble_eq_true rfl | with_unfolding_all exact rfl | with_unfolding_all exact Nat.le_of_ble_eq_true rfl | (simp only [am_cat_nil, am_cat_int, am_cat_ref, am_cat_null, am_cat_long, Nat.reduceAdd, Nat.reduceLeDiff]; done) | assumption | decide | fail)) only [z0_313, z0_315, z0_317, z0_320, z0_322, c4, c3, wm_eq, wm_ne, wm_b, wo_eq, wo_ne, wb_r, ws_eq, ws_ne, ws_b, lw1, lw2, lr1, lr2, ln2, up_eq, up_ne, up_up, fst_l, snd_l, am_al2, am_nl, i_eqll, i_10, i_00, Nat.reduceMul, Nat.reduceAdd, Nat.reduceDiv, Nat.reduceMod, Int32.reduceOfNat, Int32.reduceAdd, Int32.reduceSub, Int32.reduceMul, Int32.reduceLT, Int32.reduceLE, Int32.reduceToNatClampNeg, Nat.reduceEqDiff, Nat.reduceLeDiff, Nat.reduceLT, ↓reduceIte, not_true_eq_false, not_false_eq_true, ↓am_kc_f, am_kc_s, am_then_some, am_tl1, am_tl0, List.nil_append, ad2]
