/-! the law, from its entry to its end (printed by gen/fin4.py) -/
set_option maxRecDepth 100000
set_option maxHeartbeats 8000000
theorem HZ_of {h : am_H} {bg : Nat} {mf : Int32} {b8 : Int32} {sta : Int32} {trp : Int32} {st : Int32} {mo : Int32} {pl : Int32} {i15 : Int32} {on : Int32} {i19 : Int32} {i20 : Int32} {ix : Int32} {sp : Int32} {pc : Int32} {stp : Int32} {pr : Int32} {pc2 : Int32} {b0 : Int32} {mm : Nat → Int32} {im : Nat → Int32} {oa : Nat → Int32} (hc0 : am_g h 124285616140 0 = .ref 124302393357) (hc1 : am_g h 124285616140 1 = .ref 124373696553) (hc2 : am_g h 124285616140 2 = .int (Int32.ofNat bg)) (hc3 : am_g h 124285616140 3 = .int 1) (hc4 : am_g h 124285616140 4 = .ref 124386280296) (hc5 : am_g h 124285616140 7 = .ref 124419834728) (hc6 : am_g h 124285616140 16 = .ref 124436739113) (hc7 : am_g h 124285616140 12 = .int 0) (hc8 : am_g h 124285616140 8 = .int b8) (hc9 : am_g h 124285616140 9 = .int sta) (hc10 : am_g h 124285616140 10 = .int trp) (hc11 : am_g h 124285616140 11 = .int st) (hc12 : am_g h 124285616140 13 = .int mo) (hc13 : am_g h 124285616140 14 = .int pl) (hc14 : am_g h 124285616140 15 = .int i15) (hc15 : am_g h 124285616140 18 = .int on) (hc16 : am_g h 124285616140 19 = .int i19) (hc17 : am_g h 124285616140 20 = .int i20) (hc18 : am_g h 124302393357 0 = .ref 124323364905) (hc19 : am_g h 124302393357 1 = .ref 124335948328) (hc20 : am_g h 124302393357 2 = .ref 124352725544) (hc21 : am_g h 124302393357 8 = .ref 124285616140) (hc22 : am_g h 124302393357 3 = .int ix) (hc23 : am_g h 124302393357 5 = .int sp) (hc24 : am_g h 124302393357 6 = .int pc) (hc25 : am_g h 124302393357 7 = .int stp) (hc26 : am_g h 124302393357 9 = .int pr) (hc27 : am_g h 124302393357 10 = .int pc2) (hc28 : am_g h 124335948328 0 = .int 0) (hc29 : am_g h 124335948328 1 = .int 0) (hc30 : am_g h 124335948328 2 = .int 0) (hc31 : am_g h 124335948328 3 = .int 0) (hc32 : am_g h 124335948328 4 = .int 0) (hc33 : am_g h 124335948328 5 = .int 0) (hc34 : am_g h 124335948328 6 = .int 0) (hc35 : am_g h 124335948328 7 = .int 0) (hc36 : am_g h 124386280296 0 = .int mf) (hc37 : am_g h 124419834728 0 = .int b0) (ha0 : ∀ j, am_g h 124323364905 j = .int (mm j)) (ha1 : ∀ j, am_g h 124373696553 j = .int (im j)) (ha2 : ∀ j, am_g h 124436739113 j = .int (oa j)) : h = HZ h.2.2 h.1 h.2.1 bg mf b8 sta trp st mo pl i15 on i19 i20 ix sp pc stp pr pc2 b0 mm im oa := by
  refine Prod.ext rfl (Prod.ext rfl ?_)
  funext b j
  refine hs_ite (fun e => ?_) (fun _ => ?_)
  · subst e
    refine hs_ite (fun e => by subst e; exact hc0) (fun _ => ?_)
    refine hs_ite (fun e => by subst e; exact hc1) (fun _ => ?_)
    refine hs_ite (fun e => by subst e; exact hc2) (fun _ => ?_)
    refine hs_ite (fun e => by subst e; exact hc3) (fun _ => ?_)
    refine hs_ite (fun e => by subst e; exact hc4) (fun _ => ?_)
    refine hs_ite (fun e => by subst e; exact hc5) (fun _ => ?_)
    refine hs_ite (fun e => by subst e; exact hc6) (fun _ => ?_)
    refine hs_ite (fun e => by subst e; exact hc7) (fun _ => ?_)
    refine hs_ite (fun e => by subst e; exact hc8) (fun _ => ?_)
    refine hs_ite (fun e => by subst e; exact hc9) (fun _ => ?_)
    refine hs_ite (fun e => by subst e; exact hc10) (fun _ => ?_)
    refine hs_ite (fun e => by subst e; exact hc11) (fun _ => ?_)
    refine hs_ite (fun e => by subst e; exact hc12) (fun _ => ?_)
    refine hs_ite (fun e => by subst e; exact hc13) (fun _ => ?_)
    refine hs_ite (fun e => by subst e; exact hc14) (fun _ => ?_)
    refine hs_ite (fun e => by subst e; exact hc15) (fun _ => ?_)
    refine hs_ite (fun e => by subst e; exact hc16) (fun _ => ?_)
    refine hs_ite (fun e => by subst e; exact hc17) (fun _ => ?_)
    rfl
  refine hs_ite (fun e => ?_) (fun _ => ?_)
  · subst e
    refine hs_ite (fun e => by subst e; exact hc18) (fun _ => ?_)
    refine hs_ite (fun e => by subst e; exact hc19) (fun _ => ?_)
    refine hs_ite (fun e => by subst e; exact hc20) (fun _ => ?_)
    refine hs_ite (fun e => by subst e; exact hc21) (fun _ => ?_)
    refine hs_ite (fun e => by subst e; exact hc22) (fun _ => ?_)
    refine hs_ite (fun e => by subst e; exact hc23) (fun _ => ?_)
    refine hs_ite (fun e => by subst e; exact hc24) (fun _ => ?_)
    refine hs_ite (fun e => by subst e; exact hc25) (fun _ => ?_)
    refine hs_ite (fun e => by subst e; exact hc26) (fun _ => ?_)
    refine hs_ite (fun e => by subst e; exact hc27) (fun _ => ?_)
    rfl
  refine hs_ite (fun e => ?_) (fun _ => ?_)
  · subst e
    refine hs_ite (fun e => by subst e; exact hc28) (fun _ => ?_)
    refine hs_ite (fun e => by subst e; exact hc29) (fun _ => ?_)
    refine hs_ite (fun e => by subst e; exact hc30) (fun _ => ?_)
    refine hs_ite (fun e => by subst e; exact hc31) (fun _ => ?_)
    refine hs_ite (fun e => by subst e; exact hc32) (fun _ => ?_)
    refine hs_ite (fun e => by subst e; exact hc33) (fun _ => ?_)
    refine hs_ite (fun e => by subst e; exact hc34) (fun _ => ?_)
    refine hs_ite (fun e => by subst e; exact hc35) (fun _ => ?_)
    rfl
  refine hs_ite (fun e => ?_) (fun _ => ?_)
  · subst e
    refine hs_ite (fun e => by subst e; exact hc36) (fun _ => ?_)
    rfl
  refine hs_ite (fun e => ?_) (fun _ => ?_)
  · subst e
    refine hs_ite (fun e => by subst e; exact hc37) (fun _ => ?_)
    rfl
  refine hs_ite (fun e => by subst e; exact ha0 _) (fun _ => ?_)
  refine hs_ite (fun e => by subst e; exact ha1 _) (fun _ => ?_)
  refine hs_ite (fun e => by subst e; exact ha2 _) (fun _ => ?_)
  rfl
theorem A10_ne {V : Nat → Nat → Value} {bg fr : Int32} {a k : Nat} (h1 : a ≠ 124285616140) (h2 : a ≠ 124386280296) (h3 : a ≠ 124403057448) (h4 : a ≠ 124373696553) : A10F V bg fr a k = V a k := by
  unfold A10F
  rw [ws_ra h1, ws_ra h1, ws_ra h3, ws_ra h2, ws_ra h1, ws_ra h1, cl_ra h4, cp_ra h4, cp_ra h4]
theorem A10_im {C V : Nat → Nat → Value} {sx : Nat → Int32} {n j : Nat} {bg fr : Int32} (kb_ : ∀ k, C 7331774505 k = .int (KBF k)) (ps : ∀ a k, TC9 a = false → V a k = hp (LC C) C a k) (mb : ∀ j, V 7067402281 j = .int (cd9 sx n j)) : A10F V bg fr 124373696553 j = .int (mF (miF sx n) j) := by
  unfold A10F
  rw [ws_ra (by decide), ws_ra (by decide), ws_ra (by decide), ws_ra (by decide), ws_ra (by decide), ws_ra (by decide)]
  show (if 124373696553 = 124373696553 ∧ 40960 ≤ j ∧ j < 65536 then Value.int 0 else (if 124373696553 = 124373696553 ∧ 2048 ≤ j ∧ j < 2048 + 38912 then (cpF V 7331774505 124373696553 0 0 2048) 7067402281 (2048 + (j - 2048)) else (if 124373696553 = 124373696553 ∧ 0 ≤ j ∧ j < 0 + 2048 then V 7331774505 (0 + (j - 0)) else V 124373696553 j))) = Value.int (sb (Int32.ofNat (miF sx n j)))
  by_cases h1 : 40960 ≤ j ∧ j < 65536
  · have e : miF sx n j = 0 := (if_neg (by omega)).trans (if_neg (by omega))
    rw [if_pos ⟨rfl, h1⟩, e, sb_0]
  · rw [if_neg (fun z => h1 z.2)]
    by_cases h2 : 2048 ≤ j ∧ j < 2048 + 38912
    · have e : miF sx n j = (CODE (csP 90 (cmL sx n))).getD (j - 2048) 0 := (if_neg (by omega)).trans (if_pos (by omega))
      rw [if_pos ⟨rfl, h2⟩, cp_ra (by decide), show 2048 + (j - 2048) = j by omega, mb, e, cd9_b h2.1]
    · rw [if_neg (fun z => h2 z.2)]
      by_cases h3 : j < 2048
      · rw [if_pos ⟨rfl, Nat.zero_le _, by omega⟩, Nat.zero_add, Nat.sub_zero, ← kbf_b h3]
        exact (ps 7331774505 j rfl).trans (kb_ j)
      · have e : miF sx n j = 0 := (if_neg h3).trans (if_neg (by omega))
        rw [if_neg (fun z => h3 (by omega)), e, sb_0]
        exact (ps 124373696553 j rfl).trans rfl
theorem HZ_low {g : Nat → Nat → Value} {c0 s0 : Nat} {bg : Nat} {mf : Int32} {b8 : Int32} {sta : Int32} {trp : Int32} {st : Int32} {mo : Int32} {pl : Int32} {i15 : Int32} {on : Int32} {i19 : Int32} {i20 : Int32} {ix : Int32} {sp : Int32} {pc : Int32} {stp : Int32} {pr : Int32} {pc2 : Int32} {b0 : Int32} {mm : Nat → Int32} {im : Nat → Int32} {oa : Nat → Int32} {x k : Nat} (hx : am_i x < 286) : (HZ g c0 s0 bg mf b8 sta trp st mo pl i15 on i19 i20 ix sp pc stp pr pc2 b0 mm im oa).2.2 x k = g x k := by
  have h := am_i_lt hx
  unfold HZ
  simp (disch := (refine id ?_; omega)) only [if_neg]
theorem law_all {W : Nat → Nat → Value} {s sa : Nat} {sx : Nat → Int32} (G : GS W) (S : SCR W sa sx) : ∃ h : am_H, am_G 30 0 0 [some (.ref sa), none, none, none, none, none, none, none, none, none, none, none, none, none] [] (286, s, W) = some (some (.int 1), h) ∧ h.1 ≤ 7524 ∧ h.2.1 ≤ s + 405130 + rSS KTF true + rSS KTF false + 1376 := by
  have S' := S
  obtain ⟨w1, w2, w3, w4, w5⟩ := S'
  obtain ⟨C, s', two, pl, il, c, es, PK, T⟩ := law_told (d := 17) G S
  have n26 : scN sa ≤ 26 := Nat.min_le_left _ _
  obtain ⟨tk, tp, tf, ts, V, ni, y, R, K, g1, g2, M2⟩ := cp_32 (s := s') (d := 0) (sx := sx) (two := two) (pl := pl) (il := il) G c n26
  obtain ⟨V2, ni2, K9_, g4, M22⟩ := lk_22 (d := 0) (s := s') (y := y) G c n26 R K g1 g2
  obtain ⟨lo, ps, mw, m9, m12, h0, sp, s2, s4, s5, s6, t0, t1, by_, kd, pp, ff, ss, mb, it, io, pla, inn, hb, ix⟩ := K
  obtain ⟨lo9, ps9, m59, m69, m79, m149, m159, m169, e249, e39, k09, mb9, f09, o09, pla9, inn9⟩ := K9_
  have M18 : am_M 30 18 [.ref 4798283777, .int 0] (7504 + ni, s' + 1236 + 7 * ni, (A7F V y)) = some (some (.int 0), (7504 + ni, s' + 1236 + 7 * ni, (A7F V y))) := mw_18 (d := 29) m9 rfl
  have M19 : am_M 30 19 [.ref 4798283777, .int 0, .int 0] (7504 + ni, s' + 1236 + 7 * ni, (A7F V y)) = some (some (.int 2), (7504 + ni, s' + 1236 + 7 * ni, (A7F V y))) := mw_19 (d := 28) ((mw 3 (by decide) (by decide) (by decide) (by decide)).trans ((c.1 4798283777 3 (by decide) (by decide)).trans rfl)) h0 rfl rfl s2
  have M25 : am_M 30 25 [.ref 4798283777, .int 0] (7504 + ni2, s' + 1236 + 7 * ni2, (A10F V2 (Int32.ofNat (bgL sx (scN sa))) 2048)) = some (some (.int 0), (7504 + ni2, s' + 1236 + 7 * ni2, (A10F V2 (Int32.ofNat (bgL sx (scN sa))) 2048))) := mw_25 (d := 29) m79 rfl rfl ((ps9 124285616140 5 rfl).trans rfl) rfl
  have EZ : ((7504 + ni2, s' + 1236 + 7 * ni2, (A10F V2 (Int32.ofNat (bgL sx (scN sa))) 2048)) : am_H) = (HZ (A10F V2 (Int32.ofNat (bgL sx (scN sa))) 2048) (7504 + ni2) (s' + 1236 + 7 * ni2) (bgL sx (scN sa)) 2048 0 0 0 0 0 0 0 0 0 0 0 0 0 0 0 0 0 (mF (fun _ => 0)) (mF (miF sx (scN sa))) (fun _ => 0)) := HZ_of (h := (7504 + ni2, s' + 1236 + 7 * ni2, (A10F V2 (Int32.ofNat (bgL sx (scN sa))) 2048))) ((ps9 124285616140 0 rfl).trans rfl) ((ps9 124285616140 1 rfl).trans rfl) rfl rfl ((ps9 124285616140 4 rfl).trans rfl) ((ps9 124285616140 7 rfl).trans rfl) ((ps9 124285616140 16 rfl).trans rfl) ((ps9 124285616140 12 rfl).trans rfl) ((ps9 124285616140 8 rfl).trans rfl) rfl ((ps9 124285616140 10 rfl).trans rfl) ((ps9 124285616140 11 rfl).trans rfl) ((ps9 124285616140 13 rfl).trans rfl) ((ps9 124285616140 14 rfl).trans rfl) ((ps9 124285616140 15 rfl).trans rfl) ((ps9 124285616140 18 rfl).trans rfl) ((ps9 124285616140 19 rfl).trans rfl) ((ps9 124285616140 20 rfl).trans rfl) ((ps9 124302393357 0 rfl).trans rfl) ((ps9 124302393357 1 rfl).trans rfl) ((ps9 124302393357 2 rfl).trans rfl) ((ps9 124302393357 8 rfl).trans rfl) ((ps9 124302393357 3 rfl).trans rfl) ((ps9 124302393357 5 rfl).trans rfl) ((ps9 124302393357 6 rfl).trans rfl) ((ps9 124302393357 7 rfl).trans rfl) ((ps9 124302393357 9 rfl).trans rfl) ((ps9 124302393357 10 rfl).trans rfl) ((ps9 124335948328 0 rfl).trans rfl) ((ps9 124335948328 1 rfl).trans rfl) ((ps9 124335948328 2 rfl).trans rfl) ((ps9 124335948328 3 rfl).trans rfl) ((ps9 124335948328 4 rfl).trans rfl) ((ps9 124335948328 5 rfl).trans rfl) ((ps9 124335948328 6 rfl).trans rfl) ((ps9 124335948328 7 rfl).trans rfl) rfl ((ps9 124419834728 0 rfl).trans rfl) (fun j => (ps9 124323364905 j rfl).trans (congrArg Value.int sb_0.symm)) (fun j => A10_im (bg := Int32.ofNat (bgL sx (scN sa))) (fr := 2048) c.2.2 ps9 mb9) (fun j => (ps9 124436739113 j rfl).trans rfl)
  have M26 : am_M 30 26 [.ref 4798283777] (7504 + ni2, s' + 1236 + 7 * ni2, (A10F V2 (Int32.ofNat (bgL sx (scN sa))) 2048)) = some (some (.int 1), (HZ (A10F V2 (Int32.ofNat (bgL sx (scN sa))) 2048) (7504 + ni2) (s' + 1236 + 7 * ni2) (bgL sx (scN sa)) 2048 1 1 0 0 (-1) (-1) 0 0 0 0 0 59392 (Int32.ofNat (bgL sx (scN sa))) 0 0 0 2048 (mF (mS sx (scN sa))) (mF (miF sx (scN sa))) (fun _ => 0))) := by
    rw [EZ]
    exact mw_start (d := 25) (m := fun _ => 0) (mi := miF sx (scN sa)) m79 rfl
  have W1 : am_G 30 0 229 [some (.ref sa), some (.ref 4798283777), some (.ref 124772155947), some (.ref 124788933419), some (.ref 124805713963), some (.ref 124822491179), some (.ref 124839264427), some (.ref 124856169512), some (.int (Int32.ofNat (scN sa))), some (.int (Int32.ofNat (scN sa))), none, none, none, none] [.ref 124772155947, .ref 4798283777] (HL (hp (LC C) C) 7443 s' (lawT sx (scN sa)) two pl il) = am_G 30 0 279 [some (.ref sa), some (.ref 4798283777), some (.ref 124772155947), some (.ref 124788933419), some (.ref 124805713963), some (.ref 124822491179), some (.ref 124839264427), some (.ref 124856169512), some (.int (Int32.ofNat (scN sa))), some (.int (Int32.ofNat (scN sa))), none, none, none, none] [] (HZ (A10F V2 (Int32.ofNat (bgL sx (scN sa))) 2048) (7504 + ni2) (s' + 1236 + 7 * ni2) (bgL sx (scN sa)) 2048 1 1 0 0 (-1) (-1) 0 0 0 0 0 59392 (Int32.ofNat (bgL sx (scN sa))) 0 0 0 2048 (mF (mS sx (scN sa))) (mF (miF sx (scN sa))) (fun _ => 0)) := by
    have M2' : am_M 30 2 [.ref 4798283777, .ref 124772155947] (HL (hp (LC C) C) 7443 s' (lawT sx (scN sa)) two pl il) = _ := M2
    have M22' : am_M 30 22 [.ref 4798283777, .int 0] (7504 + ni, s' + 1236 + 7 * ni, (A7F V y)) = _ := M22
    simp (config := {maxSteps := 10000000}) (disch := (refine id ?_; first | exact Nat.ne_of_beq_eq_false rfl | exact Nat.le_of_ble_eq_true rfl | with_unfolding_all exact rfl | with_unfolding_all exact Nat.le_of_ble_eq_true rfl | (simp only [am_cat_nil, am_cat_int, am_cat_ref, am_cat_null, am_cat_long, Nat.reduceAdd, Nat.reduceLeDiff]; done) | assumption | decide | fail)) only [z0_229, z0_232, z0_235, z0_235N, z0_236, z0_237, z0_240, z0_243, z0_243N, z0_244, z0_245, z0_246, z0_249, z0_250, z0_253, z0_253N, z0_254, z0_255, z0_258, z0_259, z0_262, z0_262N, z0_263, z0_264, z0_267, z0_270, z0_270N, z0_271, z0_274, M2', M18, M19, M22', M25, M26, wm_eq, wm_ne, wm_b, wo_eq, wo_ne, wb_r, ws_eq, ws_ne, ws_b, lw1, lw2, lr1, lr2, ln2, up_eq, up_ne, up_up, fst_l, snd_l, am_al2, am_nl, i_eqll, i_10, i_00, Nat.reduceMul, Nat.reduceAdd, Nat.reduceDiv, Nat.reduceMod, Int32.reduceOfNat, Int32.reduceAdd, Int32.reduceSub, Int32.reduceMul, Int32.reduceLT, Int32.reduceLE, Int32.reduceToNatClampNeg, Nat.reduceEqDiff, Nat.reduceLeDiff, Nat.reduceLT, ↓reduceIte, not_true_eq_false, not_false_eq_true, ↓am_kc_f, am_kc_s, am_then_some, am_tl1, am_tl0, List.nil_append, ad2]
  obtain ⟨n1, hn1, e1⟩ : ∃ n1, n1 ≤ 1016 ∧ (sx 0 >>> (24 &&& 31) &&& 127) * 8 = Int32.ofNat n1 := by
    have x1 : sx 0 >>> 24 &&& 127 = Int32.ofNat (xbt (sx 0) 24 127) := xbt_s (by decide) (by decide)
    have x2 : xbt (sx 0) 24 127 ≤ 127 := xbt_le
    have x3 : (24 : Int32) &&& 31 = 24 := by decide
    have x4 : (8 : Int32) * Int32.ofNat (xbt (sx 0) 24 127) = Int32.ofNat (8 * xbt (sx 0) 24 127) := n_mul (a := 8)
    refine ⟨8 * xbt (sx 0) 24 127, by omega, ?_⟩
    rw [x3, x1, Int32.mul_comm]
    exact x4
  obtain ⟨z, ez⟩ : ∃ z : am_H, z = (HZ (A10F V2 (Int32.ofNat (bgL sx (scN sa))) 2048) (7504 + ni2) (s' + 1236 + 7 * ni2) (bgL sx (scN sa)) 2048 1 1 0 0 (-1) (-1) 0 0 0 0 0 59392 (Int32.ofNat (bgL sx (scN sa))) 0 0 0 2048 (mF (mS sx (scN sa))) (mF (miF sx (scN sa))) (fun _ => 0)) := ⟨_, rfl⟩
  have lowz : ∀ x k, am_i x < 286 → z.2.2 x k = W x k := fun x k hx => by
    have l := am_i_lt hx
    rw [ez, HZ_low hx, A10_ne (by omega) (by omega) (by omega) (by omega)]
    exact lo9 x k hx
  have CE : am_M 30 4 [.ref sa, .int 0] z = some (some (.int (sx 0)), z) := by
    by_cases h : 0 < am_n sa
    · exact cell_in (d := 29) (j := 0) w1 (by omega) h ((lowz sa 0 w2).trans (w4 0 h))
    · rw [w5 0 h]
      exact cell_out (d := 29) (j := 0) w1 (by omega) h (by decide)
  have t3 : (3000 : Int32).toInt64 = 3000 := by decide
  have W2 : am_G 30 0 279 [some (.ref sa), some (.ref 4798283777), some (.ref 124772155947), some (.ref 124788933419), some (.ref 124805713963), some (.ref 124822491179), some (.ref 124839264427), some (.ref 124856169512), some (.int (Int32.ofNat (scN sa))), some (.int (Int32.ofNat (scN sa))), none, none, none, none] [] z = am_G 30 0 313 [some (.ref sa), some (.ref 4798283777), some (.ref 124772155947), some (.ref 124788933419), some (.ref 124805713963), some (.ref 124822491179), some (.ref 124839264427), some (.ref 124856169512), some (.int (Int32.ofNat (scN sa))), some (.int (Int32.ofNat n1)), some (.int 3000), some (.int 0), some (.int (Int32.ofNat 0)), none] [] (am_p z 124788933419 9 (.long 3000)) := by
    simp (config := {maxSteps := 10000000}) (disch := (refine id ?_; first | exact Nat.ne_of_beq_eq_false rfl | exact Nat.le_of_ble_eq_true rfl | with_unfolding_all exact rfl | with_unfolding_all exact Nat.le_of_ble_eq_true rfl | (simp only [am_cat_nil, am_cat_int, am_cat_ref, am_cat_null, am_cat_long, Nat.reduceAdd, Nat.reduceLeDiff]; done) | assumption | decide | fail)) only [z0_279, z0_279N, z0_280, z0_281, z0_284, z0_286, z0_287, z0_289, z0_290, z0_292, z0_293, z0_295, z0_298, z0_300, z0_300N, z0_301, z0_303, z0_305, z0_306, z0_307, z0_308, z0_310, z0_311, CE, e1, t3, wm_eq, wm_ne, wm_b, wo_eq, wo_ne, wb_r, ws_eq, ws_ne, ws_b, lw1, lw2, lr1, lr2, ln2, up_eq, up_ne, up_up, fst_l, snd_l, am_al2, am_nl, i_eqll, i_10, i_00, Nat.reduceMul, Nat.reduceAdd, Nat.reduceDiv, Nat.reduceMod, Int32.reduceOfNat, Int32.reduceAdd, Int32.reduceSub, Int32.reduceMul, Int32.reduceLT, Int32.reduceLE, Int32.reduceToNatClampNeg, Nat.reduceEqDiff, Nat.reduceLeDiff, Nat.reduceLT, ↓reduceIte, not_true_eq_false, not_false_eq_true, ↓am_kc_f, am_kc_s, am_then_some, am_tl1, am_tl0, List.nil_append, ad2]
  have hv0 : ∀ j, z.2.2 124788933419 j = .long 0 := fun j => by rw [ez]; exact (ps9 124788933419 j rfl).trans rfl
  have ho0 : ∀ j, z.2.2 124856169512 j = .int 0 := fun j => by rw [ez]; exact (ps9 124856169512 j rfl).trans rfl
  have zc : z.1 = (7504 + ni2) ∧ z.2.1 = (s' + 1236 + 7 * ni2) := by rw [ez]; exact ⟨rfl, rfl⟩
  obtain ⟨h6, e6⟩ : ∃ h6 : am_H, h6 = am_p z 124788933419 9 (.long 3000) := ⟨_, rfl⟩
  have EH : h6 = HK h6.2.2 h6.1 h6.2.1 3000 (fun _ => 0) P0 := HV_of (h := h6) (fun j => by
    rw [e6]
    show (if 124788933419 = 124788933419 ∧ j = 9 then Value.long 3000 else z.2.2 124788933419 j) = .long (LV 3000 (fun _ => 0) P0 j)
    by_cases h9 : j = 9
    · rw [if_pos ⟨rfl, h9⟩, h9]; rfl
    · rw [if_neg (fun q => h9 q.2), hv0]
      unfold LV
      by_cases a : j < 8
      · rw [if_pos a]; rfl
      · rw [if_neg a]
        by_cases b : j = 8
        · rw [if_pos b]; rfl
        · rw [if_neg b, if_neg h9]
          by_cases b2 : j = 10
          · rw [if_pos b2]; rfl
          · rw [if_neg b2]
            by_cases b3 : j = 11
            · rw [if_pos b3]; rfl
            · rw [if_neg b3]) (fun j => by
    rw [e6]
    show (if 124856169512 = 124788933419 ∧ j = 9 then Value.long 3000 else z.2.2 124856169512 j) = .int (Int32.ofNat (([] : List Nat).getD j 0))
    rw [if_neg (fun q => absurd q.1 (by decide)), ho0]
    simp)
  have pass6 : ∀ x k, x ≠ 124788933419 → h6.2.2 x k = z.2.2 x k := fun x k hx => by
    rw [e6]
    exact if_neg (fun q => hx q.1)
  have S6 : SCR h6.2.2 sa sx := ⟨w1, w2, w3, fun j hj => (pass6 sa j (by have := am_i_lt w2; omega)).trans ((lowz sa j w2).trans (w4 j hj)), w5⟩
  have q0 : QI P0 := ⟨Or.inl ⟨rfl, rfl⟩, fun x hx => absurd hx List.not_mem_nil⟩
  have v0 : VRG (fun _ => 0) := fun j hj => by
    show (-32768 : Int) ≤ 0 ∧ (0 : Int) ≤ 32767
    omega
  obtain ⟨k2, D⟩ := law_do (d := 24) (g := h6.2.2) (c0 := h6.1) (s0 := h6.2.1) (l9 := some (.int (Int32.ofNat n1))) (l10 := some (.int 3000)) (l13 := none) S6 PK (fun k => (pass6 _ k (by decide)).trans (by rw [ez]; exact pla9 k)) (fun k => (pass6 _ k (by decide)).trans (by rw [ez]; exact inn9 k)) (scN sa) 0 (fun _ => 0) P0 (Nat.zero_add _) v0 q0 (Nat.zero_le _) (by show 0 + 20 * scN sa ≤ 520; omega)
  rw [cmR_0, plN_0] at D
  obtain ⟨mm, okr, ln⟩ := mS_MS (sx := sx) n26
  obtain ⟨r, er⟩ : ∃ r, r = doR 3000 (csP 90 (cmL sx (scN sa))) (fun _ => 0) P0 := ⟨_, rfl⟩
  rw [← er] at D
  obtain ⟨h7, e7⟩ : ∃ h7 : am_H, h7 = HK h6.2.2 h6.1 h6.2.1 3000 r.2.1 r.2.2 := ⟨_, rfl⟩
  have p7 : ∀ x k, x ≠ 124788933419 → x ≠ 124856169512 → h7.2.2 x k = z.2.2 x k := fun x k n1 n2 => by
    rw [e7]
    show (if x = 124788933419 then Value.long _ else if x = 124856169512 then Value.int _ else h6.2.2 x k) = _
    rw [if_neg n1, if_neg n2]
    exact pass6 x k n1
  have EH7 : h7 = HR h7.2.2 h7.1 h7.2.1 0 0 0 0 0 0 0 0 0 59392 (bgL sx (scN sa)) (mF (mS sx (scN sa))) 0 0 (-1) (-1) 0 (fun _ => 0) 1 0 0 0 0 := by
    apply HR_of
    all_goals first | exact (p7 _ _ (by decide) (by decide)).trans (by rw [ez]; rfl) | exact fun j => (p7 _ _ (by decide) (by decide)).trans (by rw [ez]; rfl)
  obtain ⟨hf, FR, f1, f2⟩ := law_run (g := h7.2.2) (c0 := h7.1) (s0 := h7.2.1) (d := 16) (sa := sa) (n1 := n1) (B := bgL sx (scN sa)) (stp := 0) (pr := 0) (pc2 := 0) (l := csP 90 (cmL sx (scN sa))) (m := mS sx (scN sa)) (l8 := some (.int (Int32.ofNat (scN sa)))) (l12 := some (.int k2)) (l13 := none) (fun k => by rw [← er, e7]; rfl) (fun k => by rw [← er, e7]; rfl) ((p7 _ _ (by decide) (by decide)).trans (by rw [ez]; exact m79)) ((p7 _ _ (by decide) (by decide)).trans (by rw [ez]; rfl)) mm okr (by omega) hn1 (by unfold bgL; omega)
  rw [← EH7, ← er] at FR
  refine ⟨hf, ?_, ?_, ?_⟩
  · refine T.trans ?_
    have T1 := W1
    rw [← ez] at T1
    refine T1.trans (W2.trans ?_)
    rw [← e6, EH]
    refine D.trans ?_
    rw [← e7]
    exact FR
  · rw [f1, e7]
    show h6.1 ≤ _
    rw [e6]
    show z.1 ≤ _
    rw [zc.1]
    omega
  · rw [f2, e7]
    show h6.2.1 ≤ _
    rw [e6]
    show z.2.1 ≤ _
    rw [zc.2]
    omega
