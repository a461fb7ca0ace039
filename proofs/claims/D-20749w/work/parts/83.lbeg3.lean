/-! the law up to its call of compile (printed by gen/lbeg3.py) -/
set_option maxRecDepth 100000
set_option maxHeartbeats 4000000
theorem CF_low {W C : Nat → Nat → Value} (c : CF W C) : LOW C W := fun x hx => by
  funext k
  have i : am_i x < 286 := by unfold am_i; omega
  have lo : LOW (LA (L0 W)) W := LA_low (LOW_w (fun _ _ => rfl) (by decide))
  rw [c.1 x k (by omega) (by omega)]
  show (if x < 124872818688 then LA (L0 W) x else W x) k = W x k
  rw [if_pos (by omega), lo x hx]
theorem LC_low {W C : Nat → Nat → Value} (h : LOW C W) : LOW (LC C) W := LOW_w (LOW_w (LOW_w (LOW_w (LOW_w (LOW_w (LOW_w (LOW_w (LOW_w (LOW_w (LOW_w (LOW_w (LOW_w (LOW_w (LOW_w (LOW_w (LOW_w (LOW_w (LOW_w (LOW_w (LOW_w (LOW_w (LOW_w (LOW_w (LOW_w (LOW_w (LOW_w (LOW_w (LOW_w (LOW_w (LOW_w (LOW_w (LOW_w (LOW_w (LOW_w (LOW_m h (by decide)) (by decide)) (by decide)) (by decide)) (by decide)) (by decide)) (by decide)) (by decide)) (by decide)) (by decide)) (by decide)) (by decide)) (by decide)) (by decide)) (by decide)) (by decide)) (by decide)) (by decide)) (by decide)) (by decide)) (by decide)) (by decide)) (by decide)) (by decide)) (by decide)) (by decide)) (by decide)) (by decide)) (by decide)) (by decide)) (by decide)) (by decide)) (by decide)) (by decide)) (by decide)) (by decide)
theorem LCx_low {W C B : Nat → Nat → Value} (h : LOW C W) {x k : Nat} (hx : am_i x < 286) : hp (LC C) B x k = W x k := by
  have h1 := am_i_lt hx
  show (if x < 124872818688 then LC C x else B x) k = W x k
  rw [if_pos (by omega), LC_low h x h1]
/-- the text that the law tells -/
def lawT (sx : Nat → Int32) (n : Nat) : List Nat := hdT ++ txL (rowL (cmL sx n)) ++ [32, 69, 78, 68, 32, 65, 46]
theorem lawT_len {sx : Nat → Int32} {n : Nat} (h : n ≤ 26) : (lawT sx n).length < 1980 := by
  have tl := row_tl (cmL_ok (sx := sx) (n := n))
  rw [cmL_len] at tl
  unfold lawT
  rw [List.length_append, List.length_append, hdT_len]
  show 90 + (txL (rowL (cmL sx n))).length + 7 < 1980
  omega
theorem law_told {W : Nat → Nat → Value} {s d sa : Nat} {sx : Nat → Int32} (G : GS W) (S : SCR W sa sx) : ∃ C s' two pl il, CF W C ∧ s' = s + 405130 + rSS KTF true + rSS KTF false ∧ PLK sx pl il (scN sa) ∧ am_G (d + 13) 0 0 [some (.ref sa), none, none, none, none, none, none, none, none, none, none, none, none, none] [] (286, s, W) = am_G (d + 13) 0 229 [some (.ref sa), some (.ref 4798283777), some (.ref 124772155947), some (.ref 124788933419), some (.ref 124805713963), some (.ref 124822491179), some (.ref 124839264427), some (.ref 124856169512), some (.int (Int32.ofNat (scN sa))), some (.int (Int32.ofNat (scN sa))), none, none, none, none] [.ref 124772155947, .ref 4798283777] (HL (hp (LC C) C) 7443 s' (lawT sx (scN sa)) two pl il) := by
  obtain ⟨C, s', c, es, B⟩ := law_beg (s := s) (d := d) (sa := sa) G
  have S2 : SCR (hp (LC C) C) sa sx := ⟨S.1, S.2.1, S.2.2.1, fun j hj => (LCx_low (CF_low c) S.2.1).trans (S.2.2.2.1 j hj), S.2.2.2.2⟩
  obtain ⟨two, pl, il, P, T⟩ := law_tell (c0 := 7443) (s0 := s') (d := d + 6) (l10 := none) (l11 := none) (l12 := none) (l13 := none) S2 (scN sa) 0 (fun _ => 0) (fun _ => 0) (fun _ => 0) (Nat.zero_add _) (fun j hj => absurd hj (Nat.not_lt_zero _))
  refine ⟨C, s', two, pl, il, c, es, P, ?_⟩
  have T : am_G (d + 13) 0 144 [some (.ref sa), some (.ref 4798283777), some (.ref 124772155947), some (.ref 124788933419), some (.ref 124805713963), some (.ref 124822491179), some (.ref 124839264427), some (.ref 124856169512), some (.int 0), some (.int 0), none, none, none, none] [] (HL (hp (LC C) C) 7443 s' hdT (fun _ => 0) (fun _ => 0) (fun _ => 0)) = _ := T
  rw [B, T]
  have n26 : scN sa ≤ 26 := Nat.min_le_left _ _
  have w : am_M (d + 13) 3 [.ref 4798283777, .ref 124772155947, .long 2325350837112614400] (HL (hp (LC C) C) 7443 s' (hdT ++ txL (rowL (cmL sx (scN sa)))) two pl il) = some (none, HL (hp (LC C) C) 7443 s' (lawT sx (scN sa)) two pl il) := word_ok (d := d + 9) (w := [32, 69, 78, 68, 32, 65, 46]) (by decide +kernel) (by
    have := lawT_len (sx := sx) n26
    unfold lawT at this
    rw [List.length_append] at this
    have e7 : ([32, 69, 78, 68, 32, 65, 46] : List Nat).length = 7 := rfl
    omega)
  simp (config := {maxSteps := 10000000}) (disch := (refine id ?_; first | exact Nat.ne_of_beq_eq_false rfl | exact Nat.le_of_ble_eq_true rfl | with_unfolding_all exact rfl | with_unfolding_all exact Nat.le_of_ble_eq_true rfl | (simp only [am_cat_nil, am_cat_int, am_cat_ref, am_cat_null, am_cat_long, Nat.reduceAdd, Nat.reduceLeDiff]; done) | assumption | decide | fail)) only [z0_219, z0_219N, z0_220, z0_220N, z0_221, z0_224, z0_227, z0_227N, z0_228, z0_228N, w, wm_eq, wm_ne, wm_b, wo_eq, wo_ne, wb_r, ws_eq, ws_ne, ws_b, lw1, lw2, lr1, lr2, ln2, up_eq, up_ne, up_up, fst_l, snd_l, am_al, am_nl, i_eqll, i_10, i_00, Nat.reduceMul, Nat.reduceAdd, Nat.reduceDiv, Nat.reduceMod, Int32.reduceOfNat, Int32.reduceAdd, Int32.reduceSub, Int32.reduceMul, Int32.reduceLT, Int32.reduceLE, Int32.reduceToNatClampNeg, Nat.reduceEqDiff, Nat.reduceLeDiff, Nat.reduceLT, ↓reduceIte, not_true_eq_false, not_false_eq_true, ↓am_kc_f, am_kc_s, am_then_some, am_tl1, am_tl0, List.nil_append, ad2]
