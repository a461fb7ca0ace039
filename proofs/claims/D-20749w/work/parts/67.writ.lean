/-! the law writes a number (printed by gen/doall2.py) -/
set_option maxRecDepth 100000
set_option maxHeartbeats 1000000
theorem PT_ou {P : PT} {l m : List Nat} : (P.wou l).wou m = P.wou m := rfl
theorem PT_ol {P : PT} {l : List Nat} : (P.wou l).ou = l := rfl
theorem PT_self {P : PT} : P.wou P.ou = P := rfl
theorem l_tn {a : Nat} (h : a < 100000) : Int64.ofInt a / 10 = Int64.ofInt ((a / 10 : Nat)) := by
  rw [l_10]
  exact l_td (b := 10) (by omega) (by omega) (by decide)
theorem pad_loop {g : Nat → Nat → Value} {c0 s0 d N : Nat} {v : Nat → Int} {x : Int64} {a : Int64} {w : Nat} {l7 l9 l10 : Option Value} (hw : w < 100) : ∀ (m k : Nat) (P : PT), w - k = m → k < 100 → P.ou.length + m < 2000 →
    am_G (d + 1) 15 60 [some (.ref 124788933419), some (.ref 124856169512), some (.long x), some (.retAddr 0), some (.int (Int32.ofNat w)), some (.long a), some (.retAddr 0), l7, some (.int (Int32.ofNat k)), l9, l10] [] (HK g c0 s0 N v P) = am_G (d + 1) 15 80 [some (.ref 124788933419), some (.ref 124856169512), some (.long x), some (.retAddr 0), some (.int (Int32.ofNat w)), some (.long a), some (.retAddr 0), l7, some (.int (Int32.ofNat (max k w))), l9, l10] [] (HK g c0 s0 N v (P.wou (P.ou ++ List.replicate (w - k) 32))) := by
  intro m
  induction m with
  | zero =>
    intro k P hm hk hP
    have c : (Int32.ofNat w ≤ Int32.ofNat k) = True := (n_le (by omega) (by omega)).trans (eq_true (by omega))
    have e : max k w = k := by omega
    rw [hm, e, List.replicate_zero, List.append_nil, PT_self, z15_60]
    simp (disch := (refine id ?_; first | with_reducible assumption | exact Nat.ne_of_beq_eq_false rfl | with_unfolding_all exact rfl | with_unfolding_all exact Nat.le_of_ble_eq_true rfl | (simp only [am_cat_nil, am_cat_int, am_cat_ref, am_cat_null, am_cat_long, Nat.reduceAdd, Nat.reduceLeDiff]; done) | omega | exact i_bnd2 (by simp only [am_n, Nat.reduceDiv, Nat.reduceMod, Nat.reduceMul, Nat.reduceAdd]; omega) | decide | fail)) only [z15_62, z15_64, z15_67, z15_67N, z15_68, z15_68N, z15_69, z15_71, z15_74, z15_77, HK_v, HK_8, HK_9, HK_11, HK_w, i_m4, i_m6, i_m8, i_m10, i_eqll, i_lell, i_ltll, Nat.reduceEqDiff, Nat.reduceLeDiff, Nat.reduceLT, c, ↓reduceIte, i_10, i_00, am_then_some, am_tl1, am_tl0, i_addl, ad2, Nat.reduceAdd, Int32.reduceToNatClampNeg, List.nil_append]
  | succ m ih =>
    intro k P hm hk hP
    have c : (Int32.ofNat w ≤ Int32.ofNat k) = False := (n_le (by omega) (by omega)).trans (eq_false (by omega))
    have k1 : Int32.ofNat k + 1 = Int32.ofNat (k + 1) := n_add (y := 1)
    have L : am_M (d + 1) 16 [.ref 124788933419, .ref 124856169512, .int 32] (HK g c0 s0 N v P) = some (none, HK g c0 s0 N v (P.wou (P.ou ++ [32]))) := letter_ok (b := 32) (by omega)
    have I := ih (k + 1) (P.wou (P.ou ++ [32])) (by omega) (by omega) (by rw [PT_ol, List.length_append, List.length_singleton]; omega)
    have e : max (k + 1) w = max k w := by omega
    have e2 : (P.wou (P.ou ++ [32])).wou ((P.wou (P.ou ++ [32])).ou ++ List.replicate (w - (k + 1)) 32) = P.wou (P.ou ++ List.replicate (w - k) 32) := by
      rw [PT_ol, PT_ou, List.append_assoc, show w - k = (w - (k + 1)) + 1 by omega, List.replicate_succ]
      rfl
    rw [e, e2] at I
    rw [z15_60]
    simp (disch := (refine id ?_; first | with_reducible assumption | exact Nat.ne_of_beq_eq_false rfl | with_unfolding_all exact rfl | with_unfolding_all exact Nat.le_of_ble_eq_true rfl | (simp only [am_cat_nil, am_cat_int, am_cat_ref, am_cat_null, am_cat_long, Nat.reduceAdd, Nat.reduceLeDiff]; done) | omega | exact i_bnd2 (by simp only [am_n, Nat.reduceDiv, Nat.reduceMod, Nat.reduceMul, Nat.reduceAdd]; omega) | decide | fail)) only [z15_62, z15_64, z15_67, z15_67N, z15_68, z15_68N, z15_69, z15_71, z15_74, z15_77, HK_v, HK_8, HK_9, HK_11, HK_w, i_m4, i_m6, i_m8, i_m10, i_eqll, i_lell, i_ltll, Nat.reduceEqDiff, Nat.reduceLeDiff, Nat.reduceLT, c, k1, L, I, ↓reduceIte, i_10, i_00, am_then_some, am_tl1, am_tl0, i_addl, ad2, Nat.reduceAdd, Int32.reduceToNatClampNeg, List.nil_append]
theorem lu_10000 {a : Nat} (h : a < 100000) : Int64.ofInt a / 10000 = Int64.ofInt ((a / 10000 : Nat)) := by
  rw [show (10000 : Int64) = Int64.ofInt 10000 by decide]
  exact l_td (b := 10000) (by omega) (by omega) (by decide)
theorem lu_1000 {a : Nat} (h : a < 100000) : Int64.ofInt a / 1000 = Int64.ofInt ((a / 1000 : Nat)) := by
  rw [show (1000 : Int64) = Int64.ofInt 1000 by decide]
  exact l_td (b := 1000) (by omega) (by omega) (by decide)
theorem lu_100 {a : Nat} (h : a < 100000) : Int64.ofInt a / 100 = Int64.ofInt ((a / 100 : Nat)) := by
  rw [show (100 : Int64) = Int64.ofInt 100 by decide]
  exact l_td (b := 100) (by omega) (by omega) (by decide)
theorem lu_10 {a : Nat} (h : a < 100000) : Int64.ofInt a / 10 = Int64.ofInt ((a / 10 : Nat)) := by
  rw [show (10 : Int64) = Int64.ofInt 10 by decide]
  exact l_td (b := 10) (by omega) (by omega) (by decide)
theorem lu_1 {a : Nat} (h : a < 100000) : Int64.ofInt a / 1 = Int64.ofInt ((a / 1 : Nat)) := by
  rw [show (1 : Int64) = Int64.ofInt 1 by decide]
  exact l_td (b := 1) (by omega) (by omega) (by decide)
theorem lr_10 {a : Nat} (h : a < 100000) : Int64.ofInt a - Int64.ofInt a / 10 * 10 = Int64.ofInt ((a % 10 : Nat)) := by
  rw [lu_10 h, show (10 : Int64) = Int64.ofInt 10 by decide, l_mul, l_sub]
  congr 1
  omega
theorem uq_10000 : (lg_cmp (10000 : Int64) 0 ≤ 0) = False := eq_false (by decide)
theorem ud_10000 : (10000 : Int64) / 10 = 1000 := by decide
theorem uq_1000 : (lg_cmp (1000 : Int64) 0 ≤ 0) = False := eq_false (by decide)
theorem ud_1000 : (1000 : Int64) / 10 = 100 := by decide
theorem um_1000 : (1000 : Int64) * 10 = 10000 := by decide
theorem uq_100 : (lg_cmp (100 : Int64) 0 ≤ 0) = False := eq_false (by decide)
theorem ud_100 : (100 : Int64) / 10 = 10 := by decide
theorem um_100 : (100 : Int64) * 10 = 1000 := by decide
theorem uq_10 : (lg_cmp (10 : Int64) 0 ≤ 0) = False := eq_false (by decide)
theorem ud_10 : (10 : Int64) / 10 = 1 := by decide
theorem um_10 : (10 : Int64) * 10 = 100 := by decide
theorem uq_1 : (lg_cmp (1 : Int64) 0 ≤ 0) = False := eq_false (by decide)
theorem ud_1 : (1 : Int64) / 10 = 0 := by decide
theorem um_1 : (1 : Int64) * 10 = 10 := by decide
theorem uq_0 : (lg_cmp (0 : Int64) 0 ≤ 0) = True := eq_true (by decide)
theorem wri_1 {g : Nat → Nat → Value} {c0 s0 d N : Nat} {v : Nat → Int} {P : PT} {x : Int64} {A w : Nat} (h1 : 0 ≤ A) (h2 : A < 10) {y : Int} (hy : y.natAbs = A) (hx : x = Int64.ofInt y) (hw : w < 8) (ho : P.ou.length + 20 < 1999) : am_M (d + 2) 15 [.ref 124788933419, .ref 124856169512, .long x, .int (Int32.ofNat w)] (HK g c0 s0 N v P) = some (none, HK g c0 s0 N v (P.wou (P.ou ++ wr y w))) := by
  subst hx
  have hn : nd A = 1 := by
    unfold nd
    rw [dif_pos (by omega)]
  have g0 : (lg_cmp (Int64.ofInt ((A : Nat))) 9 ≤ 0) = True := by rw [l_9, l_le (b := 9) (by omega) (by omega) (by decide) (by decide)]; exact eq_true (by omega)
  have hr : (List.range 1).reverse.map (fun j => 48 + A / 10 ^ j % 10) = [48 + A / 1 % 10] := rfl
  have LP := fun (k : Nat) (hk : k < 100) (l7 l9 l10 : Option Value) => pad_loop (g := g) (c0 := c0) (s0 := s0) (d := d) (N := N) (v := v) (x := Int64.ofInt y) (a := Int64.ofInt A) (w := w) (l7 := l7) (l9 := l9) (l10 := l10) (by omega) (w - k) k P rfl hk (by omega)
  have E : ∀ (Q : PT) (l8 l9 l10 : Option Value), Q.ou.length < 1990 → am_G (d + 1) 15 93 [some (.ref 124788933419), some (.ref 124856169512), some (.long (Int64.ofInt y)), some (.retAddr 0), some (.int (Int32.ofNat w)), some (.long (Int64.ofInt A)), some (.retAddr 0), some (.int 1), l8, l9, l10] [] (HK g c0 s0 N v Q) = some (none, HK g c0 s0 N v (Q.wou (Q.ou ++ [48 + A / 1 % 10]))) := by
    intro Q l8 l9 l10 hQ
    have y0 : (48 : Int64) + Int64.ofInt ((A / 1 % 10 : Nat)) = Int64.ofInt ((48 + A / 1 % 10 : Nat)) := by rw [l_48, l_add]; congr 1
    have z0 : (Int64.ofInt ((48 + A / 1 % 10 : Nat))).toInt32 = Int32.ofNat (48 + A / 1 % 10) := l_32 (by omega)
    have q0 : Int64.ofInt ((A / 1 : Nat)) - Int64.ofInt ((A / 1 : Nat)) / 10 * 10 = Int64.ofInt ((A / 1 % 10 : Nat)) := lr_10 (by omega)
    have u0 : Int64.ofInt ((A : Nat)) / 1 = Int64.ofInt ((A / 1 : Nat)) := lu_1 (by omega)
    have L0 := letter_ok (g := g) (c0 := c0) (s0 := s0) (d := d) (N := N) (v := v) (P := Q) (b := 48 + A / 1 % 10) (by (try simp only [PT_ol, List.length_append, List.length_cons, List.length_nil]); omega)
    have ee : (Q.wou (Q.ou ++ [48 + A / 1 % 10])) = (Q.wou (Q.ou ++ [48 + A / 1 % 10])) := by (try simp only [PT_ol, PT_ou, List.append_assoc, List.cons_append, List.nil_append])
    rw [z15_93]
    simp (disch := (refine id ?_; first | with_reducible assumption | exact Nat.ne_of_beq_eq_false rfl | with_unfolding_all exact rfl | with_unfolding_all exact Nat.le_of_ble_eq_true rfl | (simp only [am_cat_nil, am_cat_int, am_cat_ref, am_cat_null, am_cat_long, Nat.reduceAdd, Nat.reduceLeDiff]; done) | omega | exact i_bnd2 (by simp only [am_n, Nat.reduceDiv, Nat.reduceMod, Nat.reduceMul, Nat.reduceAdd]; omega) | decide | fail)) only [z15_94, z15_96, z15_97, z15_99, z15_101, z15_103, z15_106, z15_108, z15_111, z15_112, z15_114, z15_117, z15_120, z15_122, z15_123, z15_124, z15_127, z15_127N, z15_128, z15_128N, z15_129, z15_132, z15_134, z15_136, z15_137, z15_140, z15_141, z15_142, z15_143, z15_146, z15_148, z15_151, z15_152, z15_154, z15_157, HK_v, HK_8, HK_9, HK_11, HK_w, i_m4, i_m6, i_m8, i_m10, i_eqll, i_lell, i_ltll, Nat.reduceEqDiff, Nat.reduceLeDiff, Nat.reduceLT, uq_10000, ud_10000, uq_1000, ud_1000, um_1000, uq_100, ud_100, um_100, uq_10, ud_10, um_10, uq_1, ud_1, um_1, uq_0, y0, z0, q0, u0, L0, i_ltll, Int32.reduceAdd, Int32.reduceLE, ↓reduceIte, i_10, i_00, am_then_some, am_tl1, am_tl0, i_addl, ad2, Nat.reduceAdd, Int32.reduceToNatClampNeg, List.nil_append]
    all_goals exact congrArg (fun z => some ((none : Option Value), HK g c0 s0 N v z)) ee
  have y0 : (lg_cmp (Int64.ofInt y) 0) = (lg_cmp (Int64.ofInt y) (Int64.ofInt 0)) := by rw [← l_0]
  by_cases s : y < 0
  · have c1 : (0 ≤ lg_cmp (Int64.ofInt y) 0) = False := by rw [y0, l_ge (by omega) (by omega) (by decide) (by decide)]; exact eq_false (by omega)
    have n1 : -Int64.ofInt y = Int64.ofInt ((A : Nat)) := by rw [l_neg]; congr 1; omega
    have P1 := LP 2 (by decide)
    obtain ⟨Q, hQ⟩ : ∃ Q, P.wou (P.ou ++ List.replicate (w - 2) 32) = Q := ⟨_, rfl⟩
    have hl : Q.ou.length = P.ou.length + (w - 2) := by rw [← hQ, PT_ol, List.length_append, List.length_replicate]
    rw [hQ] at P1
    simp only [Int32.reduceOfNat] at P1
    have LS : am_M (d + 1) 16 [.ref 124788933419, .ref 124856169512, .int 45] (HK g c0 s0 N v Q) = some (none, HK g c0 s0 N v (Q.wou (Q.ou ++ [45]))) := letter_ok (b := 45) (by omega)
    have E1 := fun l8 l9 l10 => E (Q.wou (Q.ou ++ [45])) l8 l9 l10 (by rw [PT_ol, List.length_append, List.length_singleton]; omega)
    have fin : P.wou (P.ou ++ wr y w) = (Q.wou (Q.ou ++ [45])).wou ((Q.wou (Q.ou ++ [45])).ou ++ [48 + A / 1 % 10]) := by
      unfold wr
      rw [hy, hn, if_pos s, if_pos s, hr, ← hQ]
      simp only [PT_ol, PT_ou, List.append_assoc, List.cons_append, List.nil_append]
    rw [fin, e15 rfl rfl]
    simp (disch := (refine id ?_; first | with_reducible assumption | exact Nat.ne_of_beq_eq_false rfl | with_unfolding_all exact rfl | with_unfolding_all exact Nat.le_of_ble_eq_true rfl | (simp only [am_cat_nil, am_cat_int, am_cat_ref, am_cat_null, am_cat_long, Nat.reduceAdd, Nat.reduceLeDiff]; done) | omega | exact i_bnd2 (by simp only [am_n, Nat.reduceDiv, Nat.reduceMod, Nat.reduceMul, Nat.reduceAdd]; omega) | decide | fail)) only [z15_0, z15_1, z15_2, z15_3, z15_6, z15_7, z15_8, z15_11, z15_12, z15_14, z15_15, z15_17, z15_19, z15_21, z15_23, z15_26, z15_27, z15_30, z15_33, z15_35, z15_38, z15_39, z15_41, z15_44, z15_46, z15_47, z15_48, z15_49, z15_52, z15_53, z15_56, z15_57, z15_58, z15_62, z15_64, z15_67, z15_67N, z15_68, z15_68N, z15_69, z15_71, z15_74, z15_77, z15_80, z15_81, z15_82, z15_83, z15_86, z15_86N, z15_87, z15_87N, z15_88, z15_90, HK_v, HK_8, HK_9, HK_11, HK_w, i_m4, i_m6, i_m8, i_m10, i_eqll, i_lell, i_ltll, Nat.reduceEqDiff, Nat.reduceLeDiff, Nat.reduceLT, c1, n1, g0, P1, LS, E1, Int32.reduceAdd, ↓reduceIte, i_10, i_00, am_then_some, am_tl1, am_tl0, i_addl, ad2, Nat.reduceAdd, Int32.reduceToNatClampNeg, List.nil_append]
  · have c1 : (0 ≤ lg_cmp (Int64.ofInt y) 0) = True := by rw [y0, l_ge (by omega) (by omega) (by decide) (by decide)]; exact eq_true (by omega)
    have n1 : Int64.ofInt y = Int64.ofInt ((A : Nat)) := by congr 1; omega
    rw [n1] at c1 LP E
    have P1 := LP 1 (by decide)
    obtain ⟨Q, hQ⟩ : ∃ Q, P.wou (P.ou ++ List.replicate (w - 1) 32) = Q := ⟨_, rfl⟩
    have hl : Q.ou.length = P.ou.length + (w - 1) := by rw [← hQ, PT_ol, List.length_append, List.length_replicate]
    rw [hQ] at P1
    simp only [Int32.reduceOfNat] at P1
    have E1 := fun l8 l9 l10 => E Q l8 l9 l10 (by omega)
    have fin : P.wou (P.ou ++ wr y w) = (Q.wou (Q.ou ++ [48 + A / 1 % 10])) := by
      unfold wr
      rw [hy, hn, if_neg s, if_neg s, hr, ← hQ]
      simp only [PT_ol, PT_ou, List.append_assoc, List.cons_append, List.nil_append, Nat.add_zero]
    rw [n1, fin, e15 rfl rfl]
    simp (disch := (refine id ?_; first | with_reducible assumption | exact Nat.ne_of_beq_eq_false rfl | with_unfolding_all exact rfl | with_unfolding_all exact Nat.le_of_ble_eq_true rfl | (simp only [am_cat_nil, am_cat_int, am_cat_ref, am_cat_null, am_cat_long, Nat.reduceAdd, Nat.reduceLeDiff]; done) | omega | exact i_bnd2 (by simp only [am_n, Nat.reduceDiv, Nat.reduceMod, Nat.reduceMul, Nat.reduceAdd]; omega) | decide | fail)) only [z15_0, z15_1, z15_2, z15_3, z15_6, z15_7, z15_8, z15_11, z15_12, z15_14, z15_15, z15_17, z15_19, z15_21, z15_23, z15_26, z15_27, z15_30, z15_33, z15_35, z15_38, z15_39, z15_41, z15_44, z15_46, z15_47, z15_48, z15_49, z15_52, z15_53, z15_56, z15_57, z15_58, z15_62, z15_64, z15_67, z15_67N, z15_68, z15_68N, z15_69, z15_71, z15_74, z15_77, z15_80, z15_81, z15_82, z15_83, z15_86, z15_86N, z15_87, z15_87N, z15_88, z15_90, HK_v, HK_8, HK_9, HK_11, HK_w, i_m4, i_m6, i_m8, i_m10, i_eqll, i_lell, i_ltll, Nat.reduceEqDiff, Nat.reduceLeDiff, Nat.reduceLT, c1, g0, P1, E1, Int32.reduceAdd, ↓reduceIte, i_10, i_00, am_then_some, am_tl1, am_tl0, i_addl, ad2, Nat.reduceAdd, Int32.reduceToNatClampNeg, List.nil_append]
theorem wri_2 {g : Nat → Nat → Value} {c0 s0 d N : Nat} {v : Nat → Int} {P : PT} {x : Int64} {A w : Nat} (h1 : 10 ≤ A) (h2 : A < 100) {y : Int} (hy : y.natAbs = A) (hx : x = Int64.ofInt y) (hw : w < 8) (ho : P.ou.length + 20 < 1999) : am_M (d + 2) 15 [.ref 124788933419, .ref 124856169512, .long x, .int (Int32.ofNat w)] (HK g c0 s0 N v P) = some (none, HK g c0 s0 N v (P.wou (P.ou ++ wr y w))) := by
  subst hx
  have hn : nd A = 2 := by
    unfold nd
    rw [dif_neg (by omega)]
    unfold nd
    rw [dif_pos (by omega)]
  have g0 : (lg_cmp (Int64.ofInt ((A : Nat))) 9 ≤ 0) = False := by rw [l_9, l_le (b := 9) (by omega) (by omega) (by decide) (by decide)]; exact eq_false (by omega)
  have d0 : Int64.ofInt ((A : Nat)) / 10 = Int64.ofInt (((A / 10) : Nat)) := l_tn (by omega)
  have g1 : (lg_cmp (Int64.ofInt (((A / 10) : Nat))) 9 ≤ 0) = True := by rw [l_9, l_le (b := 9) (by omega) (by omega) (by decide) (by decide)]; exact eq_true (by omega)
  have hr : (List.range 2).reverse.map (fun j => 48 + A / 10 ^ j % 10) = [48 + A / 10 % 10, 48 + A / 1 % 10] := rfl
  have LP := fun (k : Nat) (hk : k < 100) (l7 l9 l10 : Option Value) => pad_loop (g := g) (c0 := c0) (s0 := s0) (d := d) (N := N) (v := v) (x := Int64.ofInt y) (a := Int64.ofInt A) (w := w) (l7 := l7) (l9 := l9) (l10 := l10) (by omega) (w - k) k P rfl hk (by omega)
  have E : ∀ (Q : PT) (l8 l9 l10 : Option Value), Q.ou.length < 1990 → am_G (d + 1) 15 93 [some (.ref 124788933419), some (.ref 124856169512), some (.long (Int64.ofInt y)), some (.retAddr 0), some (.int (Int32.ofNat w)), some (.long (Int64.ofInt A)), some (.retAddr 0), some (.int 2), l8, l9, l10] [] (HK g c0 s0 N v Q) = some (none, HK g c0 s0 N v (Q.wou (Q.ou ++ [48 + A / 10 % 10, 48 + A / 1 % 10]))) := by
    intro Q l8 l9 l10 hQ
    have y0 : (48 : Int64) + Int64.ofInt ((A / 10 % 10 : Nat)) = Int64.ofInt ((48 + A / 10 % 10 : Nat)) := by rw [l_48, l_add]; congr 1
    have z0 : (Int64.ofInt ((48 + A / 10 % 10 : Nat))).toInt32 = Int32.ofNat (48 + A / 10 % 10) := l_32 (by omega)
    have q0 : Int64.ofInt ((A / 10 : Nat)) - Int64.ofInt ((A / 10 : Nat)) / 10 * 10 = Int64.ofInt ((A / 10 % 10 : Nat)) := lr_10 (by omega)
    have u0 : Int64.ofInt ((A : Nat)) / 10 = Int64.ofInt ((A / 10 : Nat)) := lu_10 (by omega)
    have L0 := letter_ok (g := g) (c0 := c0) (s0 := s0) (d := d) (N := N) (v := v) (P := Q) (b := 48 + A / 10 % 10) (by (try simp only [PT_ol, List.length_append, List.length_cons, List.length_nil]); omega)
    have y1 : (48 : Int64) + Int64.ofInt ((A / 1 % 10 : Nat)) = Int64.ofInt ((48 + A / 1 % 10 : Nat)) := by rw [l_48, l_add]; congr 1
    have z1 : (Int64.ofInt ((48 + A / 1 % 10 : Nat))).toInt32 = Int32.ofNat (48 + A / 1 % 10) := l_32 (by omega)
    have q1 : Int64.ofInt ((A / 1 : Nat)) - Int64.ofInt ((A / 1 : Nat)) / 10 * 10 = Int64.ofInt ((A / 1 % 10 : Nat)) := lr_10 (by omega)
    have u1 : Int64.ofInt ((A : Nat)) / 1 = Int64.ofInt ((A / 1 : Nat)) := lu_1 (by omega)
    have L1 := letter_ok (g := g) (c0 := c0) (s0 := s0) (d := d) (N := N) (v := v) (P := (Q.wou (Q.ou ++ [48 + A / 10 % 10]))) (b := 48 + A / 1 % 10) (by (try simp only [PT_ol, List.length_append, List.length_cons, List.length_nil]); omega)
    have ee : ((Q.wou (Q.ou ++ [48 + A / 10 % 10])).wou ((Q.wou (Q.ou ++ [48 + A / 10 % 10])).ou ++ [48 + A / 1 % 10])) = (Q.wou (Q.ou ++ [48 + A / 10 % 10, 48 + A / 1 % 10])) := by (try simp only [PT_ol, PT_ou, List.append_assoc, List.cons_append, List.nil_append])
    rw [z15_93]
    simp (disch := (refine id ?_; first | with_reducible assumption | exact Nat.ne_of_beq_eq_false rfl | with_unfolding_all exact rfl | with_unfolding_all exact Nat.le_of_ble_eq_true rfl | (simp only [am_cat_nil, am_cat_int, am_cat_ref, am_cat_null, am_cat_long, Nat.reduceAdd, Nat.reduceLeDiff]; done) | omega | exact i_bnd2 (by simp only [am_n, Nat.reduceDiv, Nat.reduceMod, Nat.reduceMul, Nat.reduceAdd]; omega) | decide | fail)) only [z15_94, z15_96, z15_97, z15_99, z15_101, z15_103, z15_106, z15_108, z15_111, z15_112, z15_114, z15_117, z15_120, z15_122, z15_123, z15_124, z15_127, z15_127N, z15_128, z15_128N, z15_129, z15_132, z15_134, z15_136, z15_137, z15_140, z15_141, z15_142, z15_143, z15_146, z15_148, z15_151, z15_152, z15_154, z15_157, HK_v, HK_8, HK_9, HK_11, HK_w, i_m4, i_m6, i_m8, i_m10, i_eqll, i_lell, i_ltll, Nat.reduceEqDiff, Nat.reduceLeDiff, Nat.reduceLT, uq_10000, ud_10000, uq_1000, ud_1000, um_1000, uq_100, ud_100, um_100, uq_10, ud_10, um_10, uq_1, ud_1, um_1, uq_0, y0, z0, q0, u0, L0, y1, z1, q1, u1, L1, i_ltll, Int32.reduceAdd, Int32.reduceLE, ↓reduceIte, i_10, i_00, am_then_some, am_tl1, am_tl0, i_addl, ad2, Nat.reduceAdd, Int32.reduceToNatClampNeg, List.nil_append]
    all_goals exact congrArg (fun z => some ((none : Option Value), HK g c0 s0 N v z)) ee
  have y0 : (lg_cmp (Int64.ofInt y) 0) = (lg_cmp (Int64.ofInt y) (Int64.ofInt 0)) := by rw [← l_0]
  by_cases s : y < 0
  · have c1 : (0 ≤ lg_cmp (Int64.ofInt y) 0) = False := by rw [y0, l_ge (by omega) (by omega) (by decide) (by decide)]; exact eq_false (by omega)
    have n1 : -Int64.ofInt y = Int64.ofInt ((A : Nat)) := by rw [l_neg]; congr 1; omega
    have P1 := LP 3 (by decide)
    obtain ⟨Q, hQ⟩ : ∃ Q, P.wou (P.ou ++ List.replicate (w - 3) 32) = Q := ⟨_, rfl⟩
    have hl : Q.ou.length = P.ou.length + (w - 3) := by rw [← hQ, PT_ol, List.length_append, List.length_replicate]
    rw [hQ] at P1
    simp only [Int32.reduceOfNat] at P1
    have LS : am_M (d + 1) 16 [.ref 124788933419, .ref 124856169512, .int 45] (HK g c0 s0 N v Q) = some (none, HK g c0 s0 N v (Q.wou (Q.ou ++ [45]))) := letter_ok (b := 45) (by omega)
    have E1 := fun l8 l9 l10 => E (Q.wou (Q.ou ++ [45])) l8 l9 l10 (by rw [PT_ol, List.length_append, List.length_singleton]; omega)
    have fin : P.wou (P.ou ++ wr y w) = (Q.wou (Q.ou ++ [45])).wou ((Q.wou (Q.ou ++ [45])).ou ++ [48 + A / 10 % 10, 48 + A / 1 % 10]) := by
      unfold wr
      rw [hy, hn, if_pos s, if_pos s, hr, ← hQ]
      simp only [PT_ol, PT_ou, List.append_assoc, List.cons_append, List.nil_append]
    rw [fin, e15 rfl rfl]
    simp (disch := (refine id ?_; first | with_reducible assumption | exact Nat.ne_of_beq_eq_false rfl | with_unfolding_all exact rfl | with_unfolding_all exact Nat.le_of_ble_eq_true rfl | (simp only [am_cat_nil, am_cat_int, am_cat_ref, am_cat_null, am_cat_long, Nat.reduceAdd, Nat.reduceLeDiff]; done) | omega | exact i_bnd2 (by simp only [am_n, Nat.reduceDiv, Nat.reduceMod, Nat.reduceMul, Nat.reduceAdd]; omega) | decide | fail)) only [z15_0, z15_1, z15_2, z15_3, z15_6, z15_7, z15_8, z15_11, z15_12, z15_14, z15_15, z15_17, z15_19, z15_21, z15_23, z15_26, z15_27, z15_30, z15_33, z15_35, z15_38, z15_39, z15_41, z15_44, z15_46, z15_47, z15_48, z15_49, z15_52, z15_53, z15_56, z15_57, z15_58, z15_62, z15_64, z15_67, z15_67N, z15_68, z15_68N, z15_69, z15_71, z15_74, z15_77, z15_80, z15_81, z15_82, z15_83, z15_86, z15_86N, z15_87, z15_87N, z15_88, z15_90, HK_v, HK_8, HK_9, HK_11, HK_w, i_m4, i_m6, i_m8, i_m10, i_eqll, i_lell, i_ltll, Nat.reduceEqDiff, Nat.reduceLeDiff, Nat.reduceLT, c1, n1, g0, d0, g1, P1, LS, E1, Int32.reduceAdd, ↓reduceIte, i_10, i_00, am_then_some, am_tl1, am_tl0, i_addl, ad2, Nat.reduceAdd, Int32.reduceToNatClampNeg, List.nil_append]
  · have c1 : (0 ≤ lg_cmp (Int64.ofInt y) 0) = True := by rw [y0, l_ge (by omega) (by omega) (by decide) (by decide)]; exact eq_true (by omega)
    have n1 : Int64.ofInt y = Int64.ofInt ((A : Nat)) := by congr 1; omega
    rw [n1] at c1 LP E
    have P1 := LP 2 (by decide)
    obtain ⟨Q, hQ⟩ : ∃ Q, P.wou (P.ou ++ List.replicate (w - 2) 32) = Q := ⟨_, rfl⟩
    have hl : Q.ou.length = P.ou.length + (w - 2) := by rw [← hQ, PT_ol, List.length_append, List.length_replicate]
    rw [hQ] at P1
    simp only [Int32.reduceOfNat] at P1
    have E1 := fun l8 l9 l10 => E Q l8 l9 l10 (by omega)
    have fin : P.wou (P.ou ++ wr y w) = (Q.wou (Q.ou ++ [48 + A / 10 % 10, 48 + A / 1 % 10])) := by
      unfold wr
      rw [hy, hn, if_neg s, if_neg s, hr, ← hQ]
      simp only [PT_ol, PT_ou, List.append_assoc, List.cons_append, List.nil_append, Nat.add_zero]
    rw [n1, fin, e15 rfl rfl]
    simp (disch := (refine id ?_; first | with_reducible assumption | exact Nat.ne_of_beq_eq_false rfl | with_unfolding_all exact rfl | with_unfolding_all exact Nat.le_of_ble_eq_true rfl | (simp only [am_cat_nil, am_cat_int, am_cat_ref, am_cat_null, am_cat_long, Nat.reduceAdd, Nat.reduceLeDiff]; done) | omega | exact i_bnd2 (by simp only [am_n, Nat.reduceDiv, Nat.reduceMod, Nat.reduceMul, Nat.reduceAdd]; omega) | decide | fail)) only [z15_0, z15_1, z15_2, z15_3, z15_6, z15_7, z15_8, z15_11, z15_12, z15_14, z15_15, z15_17, z15_19, z15_21, z15_23, z15_26, z15_27, z15_30, z15_33, z15_35, z15_38, z15_39, z15_41, z15_44, z15_46, z15_47, z15_48, z15_49, z15_52, z15_53, z15_56, z15_57, z15_58, z15_62, z15_64, z15_67, z15_67N, z15_68, z15_68N, z15_69, z15_71, z15_74, z15_77, z15_80, z15_81, z15_82, z15_83, z15_86, z15_86N, z15_87, z15_87N, z15_88, z15_90, HK_v, HK_8, HK_9, HK_11, HK_w, i_m4, i_m6, i_m8, i_m10, i_eqll, i_lell, i_ltll, Nat.reduceEqDiff, Nat.reduceLeDiff, Nat.reduceLT, c1, g0, d0, g1, P1, E1, Int32.reduceAdd, ↓reduceIte, i_10, i_00, am_then_some, am_tl1, am_tl0, i_addl, ad2, Nat.reduceAdd, Int32.reduceToNatClampNeg, List.nil_append]
theorem wri_3 {g : Nat → Nat → Value} {c0 s0 d N : Nat} {v : Nat → Int} {P : PT} {x : Int64} {A w : Nat} (h1 : 100 ≤ A) (h2 : A < 1000) {y : Int} (hy : y.natAbs = A) (hx : x = Int64.ofInt y) (hw : w < 8) (ho : P.ou.length + 20 < 1999) : am_M (d + 2) 15 [.ref 124788933419, .ref 124856169512, .long x, .int (Int32.ofNat w)] (HK g c0 s0 N v P) = some (none, HK g c0 s0 N v (P.wou (P.ou ++ wr y w))) := by
  subst hx
  have hn : nd A = 3 := by
    unfold nd
    rw [dif_neg (by omega)]
    unfold nd
    rw [dif_neg (by omega)]
    unfold nd
    rw [dif_pos (by omega)]
  have g0 : (lg_cmp (Int64.ofInt ((A : Nat))) 9 ≤ 0) = False := by rw [l_9, l_le (b := 9) (by omega) (by omega) (by decide) (by decide)]; exact eq_false (by omega)
  have d0 : Int64.ofInt ((A : Nat)) / 10 = Int64.ofInt (((A / 10) : Nat)) := l_tn (by omega)
  have g1 : (lg_cmp (Int64.ofInt (((A / 10) : Nat))) 9 ≤ 0) = False := by rw [l_9, l_le (b := 9) (by omega) (by omega) (by decide) (by decide)]; exact eq_false (by omega)
  have d1 : Int64.ofInt (((A / 10) : Nat)) / 10 = Int64.ofInt ((((A / 10) / 10) : Nat)) := l_tn (by omega)
  have g2 : (lg_cmp (Int64.ofInt ((((A / 10) / 10) : Nat))) 9 ≤ 0) = True := by rw [l_9, l_le (b := 9) (by omega) (by omega) (by decide) (by decide)]; exact eq_true (by omega)
  have hr : (List.range 3).reverse.map (fun j => 48 + A / 10 ^ j % 10) = [48 + A / 100 % 10, 48 + A / 10 % 10, 48 + A / 1 % 10] := rfl
  have LP := fun (k : Nat) (hk : k < 100) (l7 l9 l10 : Option Value) => pad_loop (g := g) (c0 := c0) (s0 := s0) (d := d) (N := N) (v := v) (x := Int64.ofInt y) (a := Int64.ofInt A) (w := w) (l7 := l7) (l9 := l9) (l10 := l10) (by omega) (w - k) k P rfl hk (by omega)
  have E : ∀ (Q : PT) (l8 l9 l10 : Option Value), Q.ou.length < 1990 → am_G (d + 1) 15 93 [some (.ref 124788933419), some (.ref 124856169512), some (.long (Int64.ofInt y)), some (.retAddr 0), some (.int (Int32.ofNat w)), some (.long (Int64.ofInt A)), some (.retAddr 0), some (.int 3), l8, l9, l10] [] (HK g c0 s0 N v Q) = some (none, HK g c0 s0 N v (Q.wou (Q.ou ++ [48 + A / 100 % 10, 48 + A / 10 % 10, 48 + A / 1 % 10]))) := by
    intro Q l8 l9 l10 hQ
    have y0 : (48 : Int64) + Int64.ofInt ((A / 100 % 10 : Nat)) = Int64.ofInt ((48 + A / 100 % 10 : Nat)) := by rw [l_48, l_add]; congr 1
    have z0 : (Int64.ofInt ((48 + A / 100 % 10 : Nat))).toInt32 = Int32.ofNat (48 + A / 100 % 10) := l_32 (by omega)
    have q0 : Int64.ofInt ((A / 100 : Nat)) - Int64.ofInt ((A / 100 : Nat)) / 10 * 10 = Int64.ofInt ((A / 100 % 10 : Nat)) := lr_10 (by omega)
    have u0 : Int64.ofInt ((A : Nat)) / 100 = Int64.ofInt ((A / 100 : Nat)) := lu_100 (by omega)
    have L0 := letter_ok (g := g) (c0 := c0) (s0 := s0) (d := d) (N := N) (v := v) (P := Q) (b := 48 + A / 100 % 10) (by (try simp only [PT_ol, List.length_append, List.length_cons, List.length_nil]); omega)
    have y1 : (48 : Int64) + Int64.ofInt ((A / 10 % 10 : Nat)) = Int64.ofInt ((48 + A / 10 % 10 : Nat)) := by rw [l_48, l_add]; congr 1
    have z1 : (Int64.ofInt ((48 + A / 10 % 10 : Nat))).toInt32 = Int32.ofNat (48 + A / 10 % 10) := l_32 (by omega)
    have q1 : Int64.ofInt ((A / 10 : Nat)) - Int64.ofInt ((A / 10 : Nat)) / 10 * 10 = Int64.ofInt ((A / 10 % 10 : Nat)) := lr_10 (by omega)
    have u1 : Int64.ofInt ((A : Nat)) / 10 = Int64.ofInt ((A / 10 : Nat)) := lu_10 (by omega)
    have L1 := letter_ok (g := g) (c0 := c0) (s0 := s0) (d := d) (N := N) (v := v) (P := (Q.wou (Q.ou ++ [48 + A / 100 % 10]))) (b := 48 + A / 10 % 10) (by (try simp only [PT_ol, List.length_append, List.length_cons, List.length_nil]); omega)
    have y2 : (48 : Int64) + Int64.ofInt ((A / 1 % 10 : Nat)) = Int64.ofInt ((48 + A / 1 % 10 : Nat)) := by rw [l_48, l_add]; congr 1
    have z2 : (Int64.ofInt ((48 + A / 1 % 10 : Nat))).toInt32 = Int32.ofNat (48 + A / 1 % 10) := l_32 (by omega)
    have q2 : Int64.ofInt ((A / 1 : Nat)) - Int64.ofInt ((A / 1 : Nat)) / 10 * 10 = Int64.ofInt ((A / 1 % 10 : Nat)) := lr_10 (by omega)
    have u2 : Int64.ofInt ((A : Nat)) / 1 = Int64.ofInt ((A / 1 : Nat)) := lu_1 (by omega)
    have L2 := letter_ok (g := g) (c0 := c0) (s0 := s0) (d := d) (N := N) (v := v) (P := ((Q.wou (Q.ou ++ [48 + A / 100 % 10])).wou ((Q.wou (Q.ou ++ [48 + A / 100 % 10])).ou ++ [48 + A / 10 % 10]))) (b := 48 + A / 1 % 10) (by (try simp only [PT_ol, List.length_append, List.length_cons, List.length_nil]); omega)
    have ee : (((Q.wou (Q.ou ++ [48 + A / 100 % 10])).wou ((Q.wou (Q.ou ++ [48 + A / 100 % 10])).ou ++ [48 + A / 10 % 10])).wou (((Q.wou (Q.ou ++ [48 + A / 100 % 10])).wou ((Q.wou (Q.ou ++ [48 + A / 100 % 10])).ou ++ [48 + A / 10 % 10])).ou ++ [48 + A / 1 % 10])) = (Q.wou (Q.ou ++ [48 + A / 100 % 10, 48 + A / 10 % 10, 48 + A / 1 % 10])) := by (try simp only [PT_ol, PT_ou, List.append_assoc, List.cons_append, List.nil_append])
    rw [z15_93]
    simp (disch := (refine id ?_; first | with_reducible assumption | exact Nat.ne_of_beq_eq_false rfl | with_unfolding_all exact rfl | with_unfolding_all exact Nat.le_of_ble_eq_true rfl | (simp only [am_cat_nil, am_cat_int, am_cat_ref, am_cat_null, am_cat_long, Nat.reduceAdd, Nat.reduceLeDiff]; done) | omega | exact i_bnd2 (by simp only [am_n, Nat.reduceDiv, Nat.reduceMod, Nat.reduceMul, Nat.reduceAdd]; omega) | decide | fail)) only [z15_94, z15_96, z15_97, z15_99, z15_101, z15_103, z15_106, z15_108, z15_111, z15_112, z15_114, z15_117, z15_120, z15_122, z15_123, z15_124, z15_127, z15_127N, z15_128, z15_128N, z15_129, z15_132, z15_134, z15_136, z15_137, z15_140, z15_141, z15_142, z15_143, z15_146, z15_148, z15_151, z15_152, z15_154, z15_157, HK_v, HK_8, HK_9, HK_11, HK_w, i_m4, i_m6, i_m8, i_m10, i_eqll, i_lell, i_ltll, Nat.reduceEqDiff, Nat.reduceLeDiff, Nat.reduceLT, uq_10000, ud_10000, uq_1000, ud_1000, um_1000, uq_100, ud_100, um_100, uq_10, ud_10, um_10, uq_1, ud_1, um_1, uq_0, y0, z0, q0, u0, L0, y1, z1, q1, u1, L1, y2, z2, q2, u2, L2, i_ltll, Int32.reduceAdd, Int32.reduceLE, ↓reduceIte, i_10, i_00, am_then_some, am_tl1, am_tl0, i_addl, ad2, Nat.reduceAdd, Int32.reduceToNatClampNeg, List.nil_append]
    all_goals exact congrArg (fun z => some ((none : Option Value), HK g c0 s0 N v z)) ee
  have y0 : (lg_cmp (Int64.ofInt y) 0) = (lg_cmp (Int64.ofInt y) (Int64.ofInt 0)) := by rw [← l_0]
  by_cases s : y < 0
  · have c1 : (0 ≤ lg_cmp (Int64.ofInt y) 0) = False := by rw [y0, l_ge (by omega) (by omega) (by decide) (by decide)]; exact eq_false (by omega)
    have n1 : -Int64.ofInt y = Int64.ofInt ((A : Nat)) := by rw [l_neg]; congr 1; omega
    have P1 := LP 4 (by decide)
    obtain ⟨Q, hQ⟩ : ∃ Q, P.wou (P.ou ++ List.replicate (w - 4) 32) = Q := ⟨_, rfl⟩
    have hl : Q.ou.length = P.ou.length + (w - 4) := by rw [← hQ, PT_ol, List.length_append, List.length_replicate]
    rw [hQ] at P1
    simp only [Int32.reduceOfNat] at P1
    have LS : am_M (d + 1) 16 [.ref 124788933419, .ref 124856169512, .int 45] (HK g c0 s0 N v Q) = some (none, HK g c0 s0 N v (Q.wou (Q.ou ++ [45]))) := letter_ok (b := 45) (by omega)
    have E1 := fun l8 l9 l10 => E (Q.wou (Q.ou ++ [45])) l8 l9 l10 (by rw [PT_ol, List.length_append, List.length_singleton]; omega)
    have fin : P.wou (P.ou ++ wr y w) = (Q.wou (Q.ou ++ [45])).wou ((Q.wou (Q.ou ++ [45])).ou ++ [48 + A / 100 % 10, 48 + A / 10 % 10, 48 + A / 1 % 10]) := by
      unfold wr
      rw [hy, hn, if_pos s, if_pos s, hr, ← hQ]
      simp only [PT_ol, PT_ou, List.append_assoc, List.cons_append, List.nil_append]
    rw [fin, e15 rfl rfl]
    simp (disch := (refine id ?_; first | with_reducible assumption | exact Nat.ne_of_beq_eq_false rfl | with_unfolding_all exact rfl | with_unfolding_all exact Nat.le_of_ble_eq_true rfl | (simp only [am_cat_nil, am_cat_int, am_cat_ref, am_cat_null, am_cat_long, Nat.reduceAdd, Nat.reduceLeDiff]; done) | omega | exact i_bnd2 (by simp only [am_n, Nat.reduceDiv, Nat.reduceMod, Nat.reduceMul, Nat.reduceAdd]; omega) | decide | fail)) only [z15_0, z15_1, z15_2, z15_3, z15_6, z15_7, z15_8, z15_11, z15_12, z15_14, z15_15, z15_17, z15_19, z15_21, z15_23, z15_26, z15_27, z15_30, z15_33, z15_35, z15_38, z15_39, z15_41, z15_44, z15_46, z15_47, z15_48, z15_49, z15_52, z15_53, z15_56, z15_57, z15_58, z15_62, z15_64, z15_67, z15_67N, z15_68, z15_68N, z15_69, z15_71, z15_74, z15_77, z15_80, z15_81, z15_82, z15_83, z15_86, z15_86N, z15_87, z15_87N, z15_88, z15_90, HK_v, HK_8, HK_9, HK_11, HK_w, i_m4, i_m6, i_m8, i_m10, i_eqll, i_lell, i_ltll, Nat.reduceEqDiff, Nat.reduceLeDiff, Nat.reduceLT, c1, n1, g0, d0, g1, d1, g2, P1, LS, E1, Int32.reduceAdd, ↓reduceIte, i_10, i_00, am_then_some, am_tl1, am_tl0, i_addl, ad2, Nat.reduceAdd, Int32.reduceToNatClampNeg, List.nil_append]
  · have c1 : (0 ≤ lg_cmp (Int64.ofInt y) 0) = True := by rw [y0, l_ge (by omega) (by omega) (by decide) (by decide)]; exact eq_true (by omega)
    have n1 : Int64.ofInt y = Int64.ofInt ((A : Nat)) := by congr 1; omega
    rw [n1] at c1 LP E
    have P1 := LP 3 (by decide)
    obtain ⟨Q, hQ⟩ : ∃ Q, P.wou (P.ou ++ List.replicate (w - 3) 32) = Q := ⟨_, rfl⟩
    have hl : Q.ou.length = P.ou.length + (w - 3) := by rw [← hQ, PT_ol, List.length_append, List.length_replicate]
    rw [hQ] at P1
    simp only [Int32.reduceOfNat] at P1
    have E1 := fun l8 l9 l10 => E Q l8 l9 l10 (by omega)
    have fin : P.wou (P.ou ++ wr y w) = (Q.wou (Q.ou ++ [48 + A / 100 % 10, 48 + A / 10 % 10, 48 + A / 1 % 10])) := by
      unfold wr
      rw [hy, hn, if_neg s, if_neg s, hr, ← hQ]
      simp only [PT_ol, PT_ou, List.append_assoc, List.cons_append, List.nil_append, Nat.add_zero]
    rw [n1, fin, e15 rfl rfl]
    simp (disch := (refine id ?_; first | with_reducible assumption | exact Nat.ne_of_beq_eq_false rfl | with_unfolding_all exact rfl | with_unfolding_all exact Nat.le_of_ble_eq_true rfl | (simp only [am_cat_nil, am_cat_int, am_cat_ref, am_cat_null, am_cat_long, Nat.reduceAdd, Nat.reduceLeDiff]; done) | omega | exact i_bnd2 (by simp only [am_n, Nat.reduceDiv, Nat.reduceMod, Nat.reduceMul, Nat.reduceAdd]; omega) | decide | fail)) only [z15_0, z15_1, z15_2, z15_3, z15_6, z15_7, z15_8, z15_11, z15_12, z15_14, z15_15, z15_17, z15_19, z15_21, z15_23, z15_26, z15_27, z15_30, z15_33, z15_35, z15_38, z15_39, z15_41, z15_44, z15_46, z15_47, z15_48, z15_49, z15_52, z15_53, z15_56, z15_57, z15_58, z15_62, z15_64, z15_67, z15_67N, z15_68, z15_68N, z15_69, z15_71, z15_74, z15_77, z15_80, z15_81, z15_82, z15_83, z15_86, z15_86N, z15_87, z15_87N, z15_88, z15_90, HK_v, HK_8, HK_9, HK_11, HK_w, i_m4, i_m6, i_m8, i_m10, i_eqll, i_lell, i_ltll, Nat.reduceEqDiff, Nat.reduceLeDiff, Nat.reduceLT, c1, g0, d0, g1, d1, g2, P1, E1, Int32.reduceAdd, ↓reduceIte, i_10, i_00, am_then_some, am_tl1, am_tl0, i_addl, ad2, Nat.reduceAdd, Int32.reduceToNatClampNeg, List.nil_append]
theorem wri_4 {g : Nat → Nat → Value} {c0 s0 d N : Nat} {v : Nat → Int} {P : PT} {x : Int64} {A w : Nat} (h1 : 1000 ≤ A) (h2 : A < 10000) {y : Int} (hy : y.natAbs = A) (hx : x = Int64.ofInt y) (hw : w < 8) (ho : P.ou.length + 20 < 1999) : am_M (d + 2) 15 [.ref 124788933419, .ref 124856169512, .long x, .int (Int32.ofNat w)] (HK g c0 s0 N v P) = some (none, HK g c0 s0 N v (P.wou (P.ou ++ wr y w))) := by
  subst hx
  have hn : nd A = 4 := by
    unfold nd
    rw [dif_neg (by omega)]
    unfold nd
    rw [dif_neg (by omega)]
    unfold nd
    rw [dif_neg (by omega)]
    unfold nd
    rw [dif_pos (by omega)]
  have g0 : (lg_cmp (Int64.ofInt ((A : Nat))) 9 ≤ 0) = False := by rw [l_9, l_le (b := 9) (by omega) (by omega) (by decide) (by decide)]; exact eq_false (by omega)
  have d0 : Int64.ofInt ((A : Nat)) / 10 = Int64.ofInt (((A / 10) : Nat)) := l_tn (by omega)
  have g1 : (lg_cmp (Int64.ofInt (((A / 10) : Nat))) 9 ≤ 0) = False := by rw [l_9, l_le (b := 9) (by omega) (by omega) (by decide) (by decide)]; exact eq_false (by omega)
  have d1 : Int64.ofInt (((A / 10) : Nat)) / 10 = Int64.ofInt ((((A / 10) / 10) : Nat)) := l_tn (by omega)
  have g2 : (lg_cmp (Int64.ofInt ((((A / 10) / 10) : Nat))) 9 ≤ 0) = False := by rw [l_9, l_le (b := 9) (by omega) (by omega) (by decide) (by decide)]; exact eq_false (by omega)
  have d2 : Int64.ofInt ((((A / 10) / 10) : Nat)) / 10 = Int64.ofInt (((((A / 10) / 10) / 10) : Nat)) := l_tn (by omega)
  have g3 : (lg_cmp (Int64.ofInt (((((A / 10) / 10) / 10) : Nat))) 9 ≤ 0) = True := by rw [l_9, l_le (b := 9) (by omega) (by omega) (by decide) (by decide)]; exact eq_true (by omega)
  have hr : (List.range 4).reverse.map (fun j => 48 + A / 10 ^ j % 10) = [48 + A / 1000 % 10, 48 + A / 100 % 10, 48 + A / 10 % 10, 48 + A / 1 % 10] := rfl
  have LP := fun (k : Nat) (hk : k < 100) (l7 l9 l10 : Option Value) => pad_loop (g := g) (c0 := c0) (s0 := s0) (d := d) (N := N) (v := v) (x := Int64.ofInt y) (a := Int64.ofInt A) (w := w) (l7 := l7) (l9 := l9) (l10 := l10) (by omega) (w - k) k P rfl hk (by omega)
  have E : ∀ (Q : PT) (l8 l9 l10 : Option Value), Q.ou.length < 1990 → am_G (d + 1) 15 93 [some (.ref 124788933419), some (.ref 124856169512), some (.long (Int64.ofInt y)), some (.retAddr 0), some (.int (Int32.ofNat w)), some (.long (Int64.ofInt A)), some (.retAddr 0), some (.int 4), l8, l9, l10] [] (HK g c0 s0 N v Q) = some (none, HK g c0 s0 N v (Q.wou (Q.ou ++ [48 + A / 1000 % 10, 48 + A / 100 % 10, 48 + A / 10 % 10, 48 + A / 1 % 10]))) := by
    intro Q l8 l9 l10 hQ
    have y0 : (48 : Int64) + Int64.ofInt ((A / 1000 % 10 : Nat)) = Int64.ofInt ((48 + A / 1000 % 10 : Nat)) := by rw [l_48, l_add]; congr 1
    have z0 : (Int64.ofInt ((48 + A / 1000 % 10 : Nat))).toInt32 = Int32.ofNat (48 + A / 1000 % 10) := l_32 (by omega)
    have q0 : Int64.ofInt ((A / 1000 : Nat)) - Int64.ofInt ((A / 1000 : Nat)) / 10 * 10 = Int64.ofInt ((A / 1000 % 10 : Nat)) := lr_10 (by omega)
    have u0 : Int64.ofInt ((A : Nat)) / 1000 = Int64.ofInt ((A / 1000 : Nat)) := lu_1000 (by omega)
    have L0 := letter_ok (g := g) (c0 := c0) (s0 := s0) (d := d) (N := N) (v := v) (P := Q) (b := 48 + A / 1000 % 10) (by (try simp only [PT_ol, List.length_append, List.length_cons, List.length_nil]); omega)
    have y1 : (48 : Int64) + Int64.ofInt ((A / 100 % 10 : Nat)) = Int64.ofInt ((48 + A / 100 % 10 : Nat)) := by rw [l_48, l_add]; congr 1
    have z1 : (Int64.ofInt ((48 + A / 100 % 10 : Nat))).toInt32 = Int32.ofNat (48 + A / 100 % 10) := l_32 (by omega)
    have q1 : Int64.ofInt ((A / 100 : Nat)) - Int64.ofInt ((A / 100 : Nat)) / 10 * 10 = Int64.ofInt ((A / 100 % 10 : Nat)) := lr_10 (by omega)
    have u1 : Int64.ofInt ((A : Nat)) / 100 = Int64.ofInt ((A / 100 : Nat)) := lu_100 (by omega)
    have L1 := letter_ok (g := g) (c0 := c0) (s0 := s0) (d := d) (N := N) (v := v) (P := (Q.wou (Q.ou ++ [48 + A / 1000 % 10]))) (b := 48 + A / 100 % 10) (by (try simp only [PT_ol, List.length_append, List.length_cons, List.length_nil]); omega)
    have y2 : (48 : Int64) + Int64.ofInt ((A / 10 % 10 : Nat)) = Int64.ofInt ((48 + A / 10 % 10 : Nat)) := by rw [l_48, l_add]; congr 1
    have z2 : (Int64.ofInt ((48 + A / 10 % 10 : Nat))).toInt32 = Int32.ofNat (48 + A / 10 % 10) := l_32 (by omega)
    have q2 : Int64.ofInt ((A / 10 : Nat)) - Int64.ofInt ((A / 10 : Nat)) / 10 * 10 = Int64.ofInt ((A / 10 % 10 : Nat)) := lr_10 (by omega)
    have u2 : Int64.ofInt ((A : Nat)) / 10 = Int64.ofInt ((A / 10 : Nat)) := lu_10 (by omega)
    have L2 := letter_ok (g := g) (c0 := c0) (s0 := s0) (d := d) (N := N) (v := v) (P := ((Q.wou (Q.ou ++ [48 + A / 1000 % 10])).wou ((Q.wou (Q.ou ++ [48 + A / 1000 % 10])).ou ++ [48 + A / 100 % 10]))) (b := 48 + A / 10 % 10) (by (try simp only [PT_ol, List.length_append, List.length_cons, List.length_nil]); omega)
    have y3 : (48 : Int64) + Int64.ofInt ((A / 1 % 10 : Nat)) = Int64.ofInt ((48 + A / 1 % 10 : Nat)) := by rw [l_48, l_add]; congr 1
    have z3 : (Int64.ofInt ((48 + A / 1 % 10 : Nat))).toInt32 = Int32.ofNat (48 + A / 1 % 10) := l_32 (by omega)
    have q3 : Int64.ofInt ((A / 1 : Nat)) - Int64.ofInt ((A / 1 : Nat)) / 10 * 10 = Int64.ofInt ((A / 1 % 10 : Nat)) := lr_10 (by omega)
    have u3 : Int64.ofInt ((A : Nat)) / 1 = Int64.ofInt ((A / 1 : Nat)) := lu_1 (by omega)
    have L3 := letter_ok (g := g) (c0 := c0) (s0 := s0) (d := d) (N := N) (v := v) (P := (((Q.wou (Q.ou ++ [48 + A / 1000 % 10])).wou ((Q.wou (Q.ou ++ [48 + A / 1000 % 10])).ou ++ [48 + A / 100 % 10])).wou (((Q.wou (Q.ou ++ [48 + A / 1000 % 10])).wou ((Q.wou (Q.ou ++ [48 + A / 1000 % 10])).ou ++ [48 + A / 100 % 10])).ou ++ [48 + A / 10 % 10]))) (b := 48 + A / 1 % 10) (by (try simp only [PT_ol, List.length_append, List.length_cons, List.length_nil]); omega)
    have ee : ((((Q.wou (Q.ou ++ [48 + A / 1000 % 10])).wou ((Q.wou (Q.ou ++ [48 + A / 1000 % 10])).ou ++ [48 + A / 100 % 10])).wou (((Q.wou (Q.ou ++ [48 + A / 1000 % 10])).wou ((Q.wou (Q.ou ++ [48 + A / 1000 % 10])).ou ++ [48 + A / 100 % 10])).ou ++ [48 + A / 10 % 10])).wou ((((Q.wou (Q.ou ++ [48 + A / 1000 % 10])).wou ((Q.wou (Q.ou ++ [48 + A / 1000 % 10])).ou ++ [48 + A / 100 % 10])).wou (((Q.wou (Q.ou ++ [48 + A / 1000 % 10])).wou ((Q.wou (Q.ou ++ [48 + A / 1000 % 10])).ou ++ [48 + A / 100 % 10])).ou ++ [48 + A / 10 % 10])).ou ++ [48 + A / 1 % 10])) = (Q.wou (Q.ou ++ [48 + A / 1000 % 10, 48 + A / 100 % 10, 48 + A / 10 % 10, 48 + A / 1 % 10])) := by (try simp only [PT_ol, PT_ou, List.append_assoc, List.cons_append, List.nil_append])
    rw [z15_93]
    simp (disch := (refine id ?_; first | with_reducible assumption | exact Nat.ne_of_beq_eq_false rfl | with_unfolding_all exact rfl | with_unfolding_all exact Nat.le_of_ble_eq_true rfl | (simp only [am_cat_nil, am_cat_int, am_cat_ref, am_cat_null, am_cat_long, Nat.reduceAdd, Nat.reduceLeDiff]; done) | omega | exact i_bnd2 (by simp only [am_n, Nat.reduceDiv, Nat.reduceMod, Nat.reduceMul, Nat.reduceAdd]; omega) | decide | fail)) only [z15_94, z15_96, z15_97, z15_99, z15_101, z15_103, z15_106, z15_108, z15_111, z15_112, z15_114, z15_117, z15_120, z15_122, z15_123, z15_124, z15_127, z15_127N, z15_128, z15_128N, z15_129, z15_132, z15_134, z15_136, z15_137, z15_140, z15_141, z15_142, z15_143, z15_146, z15_148, z15_151, z15_152, z15_154, z15_157, HK_v, HK_8, HK_9, HK_11, HK_w, i_m4, i_m6, i_m8, i_m10, i_eqll, i_lell, i_ltll, Nat.reduceEqDiff, Nat.reduceLeDiff, Nat.reduceLT, uq_10000, ud_10000, uq_1000, ud_1000, um_1000, uq_100, ud_100, um_100, uq_10, ud_10, um_10, uq_1, ud_1, um_1, uq_0, y0, z0, q0, u0, L0, y1, z1, q1, u1, L1, y2, z2, q2, u2, L2, y3, z3, q3, u3, L3, i_ltll, Int32.reduceAdd, Int32.reduceLE, ↓reduceIte, i_10, i_00, am_then_some, am_tl1, am_tl0, i_addl, ad2, Nat.reduceAdd, Int32.reduceToNatClampNeg, List.nil_append]
    all_goals exact congrArg (fun z => some ((none : Option Value), HK g c0 s0 N v z)) ee
  have y0 : (lg_cmp (Int64.ofInt y) 0) = (lg_cmp (Int64.ofInt y) (Int64.ofInt 0)) := by rw [← l_0]
  by_cases s : y < 0
  · have c1 : (0 ≤ lg_cmp (Int64.ofInt y) 0) = False := by rw [y0, l_ge (by omega) (by omega) (by decide) (by decide)]; exact eq_false (by omega)
    have n1 : -Int64.ofInt y = Int64.ofInt ((A : Nat)) := by rw [l_neg]; congr 1; omega
    have P1 := LP 5 (by decide)
    obtain ⟨Q, hQ⟩ : ∃ Q, P.wou (P.ou ++ List.replicate (w - 5) 32) = Q := ⟨_, rfl⟩
    have hl : Q.ou.length = P.ou.length + (w - 5) := by rw [← hQ, PT_ol, List.length_append, List.length_replicate]
    rw [hQ] at P1
    simp only [Int32.reduceOfNat] at P1
    have LS : am_M (d + 1) 16 [.ref 124788933419, .ref 124856169512, .int 45] (HK g c0 s0 N v Q) = some (none, HK g c0 s0 N v (Q.wou (Q.ou ++ [45]))) := letter_ok (b := 45) (by omega)
    have E1 := fun l8 l9 l10 => E (Q.wou (Q.ou ++ [45])) l8 l9 l10 (by rw [PT_ol, List.length_append, List.length_singleton]; omega)
    have fin : P.wou (P.ou ++ wr y w) = (Q.wou (Q.ou ++ [45])).wou ((Q.wou (Q.ou ++ [45])).ou ++ [48 + A / 1000 % 10, 48 + A / 100 % 10, 48 + A / 10 % 10, 48 + A / 1 % 10]) := by
      unfold wr
      rw [hy, hn, if_pos s, if_pos s, hr, ← hQ]
      simp only [PT_ol, PT_ou, List.append_assoc, List.cons_append, List.nil_append]
    rw [fin, e15 rfl rfl]
    simp (disch := (refine id ?_; first | with_reducible assumption | exact Nat.ne_of_beq_eq_false rfl | with_unfolding_all exact rfl | with_unfolding_all exact Nat.le_of_ble_eq_true rfl | (simp only [am_cat_nil, am_cat_int, am_cat_ref, am_cat_null, am_cat_long, Nat.reduceAdd, Nat.reduceLeDiff]; done) | omega | exact i_bnd2 (by simp only [am_n, Nat.reduceDiv, Nat.reduceMod, Nat.reduceMul, Nat.reduceAdd]; omega) | decide | fail)) only [z15_0, z15_1, z15_2, z15_3, z15_6, z15_7, z15_8, z15_11, z15_12, z15_14, z15_15, z15_17, z15_19, z15_21, z15_23, z15_26, z15_27, z15_30, z15_33, z15_35, z15_38, z15_39, z15_41, z15_44, z15_46, z15_47, z15_48, z15_49, z15_52, z15_53, z15_56, z15_57, z15_58, z15_62, z15_64, z15_67, z15_67N, z15_68, z15_68N, z15_69, z15_71, z15_74, z15_77, z15_80, z15_81, z15_82, z15_83, z15_86, z15_86N, z15_87, z15_87N, z15_88, z15_90, HK_v, HK_8, HK_9, HK_11, HK_w, i_m4, i_m6, i_m8, i_m10, i_eqll, i_lell, i_ltll, Nat.reduceEqDiff, Nat.reduceLeDiff, Nat.reduceLT, c1, n1, g0, d0, g1, d1, g2, d2, g3, P1, LS, E1, Int32.reduceAdd, ↓reduceIte, i_10, i_00, am_then_some, am_tl1, am_tl0, i_addl, ad2, Nat.reduceAdd, Int32.reduceToNatClampNeg, List.nil_append]
  · have c1 : (0 ≤ lg_cmp (Int64.ofInt y) 0) = True := by rw [y0, l_ge (by omega) (by omega) (by decide) (by decide)]; exact eq_true (by omega)
    have n1 : Int64.ofInt y = Int64.ofInt ((A : Nat)) := by congr 1; omega
    rw [n1] at c1 LP E
    have P1 := LP 4 (by decide)
    obtain ⟨Q, hQ⟩ : ∃ Q, P.wou (P.ou ++ List.replicate (w - 4) 32) = Q := ⟨_, rfl⟩
    have hl : Q.ou.length = P.ou.length + (w - 4) := by rw [← hQ, PT_ol, List.length_append, List.length_replicate]
    rw [hQ] at P1
    simp only [Int32.reduceOfNat] at P1
    have E1 := fun l8 l9 l10 => E Q l8 l9 l10 (by omega)
    have fin : P.wou (P.ou ++ wr y w) = (Q.wou (Q.ou ++ [48 + A / 1000 % 10, 48 + A / 100 % 10, 48 + A / 10 % 10, 48 + A / 1 % 10])) := by
      unfold wr
      rw [hy, hn, if_neg s, if_neg s, hr, ← hQ]
      simp only [PT_ol, PT_ou, List.append_assoc, List.cons_append, List.nil_append, Nat.add_zero]
    rw [n1, fin, e15 rfl rfl]
    simp (disch := (refine id ?_; first | with_reducible assumption | exact Nat.ne_of_beq_eq_false rfl | with_unfolding_all exact rfl | with_unfolding_all exact Nat.le_of_ble_eq_true rfl | (simp only [am_cat_nil, am_cat_int, am_cat_ref, am_cat_null, am_cat_long, Nat.reduceAdd, Nat.reduceLeDiff]; done) | omega | exact i_bnd2 (by simp only [am_n, Nat.reduceDiv, Nat.reduceMod, Nat.reduceMul, Nat.reduceAdd]; omega) | decide | fail)) only [z15_0, z15_1, z15_2, z15_3, z15_6, z15_7, z15_8, z15_11, z15_12, z15_14, z15_15, z15_17, z15_19, z15_21, z15_23, z15_26, z15_27, z15_30, z15_33, z15_35, z15_38, z15_39, z15_41, z15_44, z15_46, z15_47, z15_48, z15_49, z15_52, z15_53, z15_56, z15_57, z15_58, z15_62, z15_64, z15_67, z15_67N, z15_68, z15_68N, z15_69, z15_71, z15_74, z15_77, z15_80, z15_81, z15_82, z15_83, z15_86, z15_86N, z15_87, z15_87N, z15_88, z15_90, HK_v, HK_8, HK_9, HK_11, HK_w, i_m4, i_m6, i_m8, i_m10, i_eqll, i_lell, i_ltll, Nat.reduceEqDiff, Nat.reduceLeDiff, Nat.reduceLT, c1, g0, d0, g1, d1, g2, d2, g3, P1, E1, Int32.reduceAdd, ↓reduceIte, i_10, i_00, am_then_some, am_tl1, am_tl0, i_addl, ad2, Nat.reduceAdd, Int32.reduceToNatClampNeg, List.nil_append]
theorem wri_5 {g : Nat → Nat → Value} {c0 s0 d N : Nat} {v : Nat → Int} {P : PT} {x : Int64} {A w : Nat} (h1 : 10000 ≤ A) (h2 : A < 40000) {y : Int} (hy : y.natAbs = A) (hx : x = Int64.ofInt y) (hw : w < 8) (ho : P.ou.length + 20 < 1999) : am_M (d + 2) 15 [.ref 124788933419, .ref 124856169512, .long x, .int (Int32.ofNat w)] (HK g c0 s0 N v P) = some (none, HK g c0 s0 N v (P.wou (P.ou ++ wr y w))) := by
  subst hx
  have hn : nd A = 5 := by
    unfold nd
    rw [dif_neg (by omega)]
    unfold nd
    rw [dif_neg (by omega)]
    unfold nd
    rw [dif_neg (by omega)]
    unfold nd
    rw [dif_neg (by omega)]
    unfold nd
    rw [dif_pos (by omega)]
  have g0 : (lg_cmp (Int64.ofInt ((A : Nat))) 9 ≤ 0) = False := by rw [l_9, l_le (b := 9) (by omega) (by omega) (by decide) (by decide)]; exact eq_false (by omega)
  have d0 : Int64.ofInt ((A : Nat)) / 10 = Int64.ofInt (((A / 10) : Nat)) := l_tn (by omega)
  have g1 : (lg_cmp (Int64.ofInt (((A / 10) : Nat))) 9 ≤ 0) = False := by rw [l_9, l_le (b := 9) (by omega) (by omega) (by decide) (by decide)]; exact eq_false (by omega)
  have d1 : Int64.ofInt (((A / 10) : Nat)) / 10 = Int64.ofInt ((((A / 10) / 10) : Nat)) := l_tn (by omega)
  have g2 : (lg_cmp (Int64.ofInt ((((A / 10) / 10) : Nat))) 9 ≤ 0) = False := by rw [l_9, l_le (b := 9) (by omega) (by omega) (by decide) (by decide)]; exact eq_false (by omega)
  have d2 : Int64.ofInt ((((A / 10) / 10) : Nat)) / 10 = Int64.ofInt (((((A / 10) / 10) / 10) : Nat)) := l_tn (by omega)
  have g3 : (lg_cmp (Int64.ofInt (((((A / 10) / 10) / 10) : Nat))) 9 ≤ 0) = False := by rw [l_9, l_le (b := 9) (by omega) (by omega) (by decide) (by decide)]; exact eq_false (by omega)
  have d3 : Int64.ofInt (((((A / 10) / 10) / 10) : Nat)) / 10 = Int64.ofInt ((((((A / 10) / 10) / 10) / 10) : Nat)) := l_tn (by omega)
  have g4 : (lg_cmp (Int64.ofInt ((((((A / 10) / 10) / 10) / 10) : Nat))) 9 ≤ 0) = True := by rw [l_9, l_le (b := 9) (by omega) (by omega) (by decide) (by decide)]; exact eq_true (by omega)
  have hr : (List.range 5).reverse.map (fun j => 48 + A / 10 ^ j % 10) = [48 + A / 10000 % 10, 48 + A / 1000 % 10, 48 + A / 100 % 10, 48 + A / 10 % 10, 48 + A / 1 % 10] := rfl
  have LP := fun (k : Nat) (hk : k < 100) (l7 l9 l10 : Option Value) => pad_loop (g := g) (c0 := c0) (s0 := s0) (d := d) (N := N) (v := v) (x := Int64.ofInt y) (a := Int64.ofInt A) (w := w) (l7 := l7) (l9 := l9) (l10 := l10) (by omega) (w - k) k P rfl hk (by omega)
  have E : ∀ (Q : PT) (l8 l9 l10 : Option Value), Q.ou.length < 1990 → am_G (d + 1) 15 93 [some (.ref 124788933419), some (.ref 124856169512), some (.long (Int64.ofInt y)), some (.retAddr 0), some (.int (Int32.ofNat w)), some (.long (Int64.ofInt A)), some (.retAddr 0), some (.int 5), l8, l9, l10] [] (HK g c0 s0 N v Q) = some (none, HK g c0 s0 N v (Q.wou (Q.ou ++ [48 + A / 10000 % 10, 48 + A / 1000 % 10, 48 + A / 100 % 10, 48 + A / 10 % 10, 48 + A / 1 % 10]))) := by
    intro Q l8 l9 l10 hQ
    have y0 : (48 : Int64) + Int64.ofInt ((A / 10000 % 10 : Nat)) = Int64.ofInt ((48 + A / 10000 % 10 : Nat)) := by rw [l_48, l_add]; congr 1
    have z0 : (Int64.ofInt ((48 + A / 10000 % 10 : Nat))).toInt32 = Int32.ofNat (48 + A / 10000 % 10) := l_32 (by omega)
    have q0 : Int64.ofInt ((A / 10000 : Nat)) - Int64.ofInt ((A / 10000 : Nat)) / 10 * 10 = Int64.ofInt ((A / 10000 % 10 : Nat)) := lr_10 (by omega)
    have u0 : Int64.ofInt ((A : Nat)) / 10000 = Int64.ofInt ((A / 10000 : Nat)) := lu_10000 (by omega)
    have L0 := letter_ok (g := g) (c0 := c0) (s0 := s0) (d := d) (N := N) (v := v) (P := Q) (b := 48 + A / 10000 % 10) (by (try simp only [PT_ol, List.length_append, List.length_cons, List.length_nil]); omega)
    have y1 : (48 : Int64) + Int64.ofInt ((A / 1000 % 10 : Nat)) = Int64.ofInt ((48 + A / 1000 % 10 : Nat)) := by rw [l_48, l_add]; congr 1
    have z1 : (Int64.ofInt ((48 + A / 1000 % 10 : Nat))).toInt32 = Int32.ofNat (48 + A / 1000 % 10) := l_32 (by omega)
    have q1 : Int64.ofInt ((A / 1000 : Nat)) - Int64.ofInt ((A / 1000 : Nat)) / 10 * 10 = Int64.ofInt ((A / 1000 % 10 : Nat)) := lr_10 (by omega)
    have u1 : Int64.ofInt ((A : Nat)) / 1000 = Int64.ofInt ((A / 1000 : Nat)) := lu_1000 (by omega)
    have L1 := letter_ok (g := g) (c0 := c0) (s0 := s0) (d := d) (N := N) (v := v) (P := (Q.wou (Q.ou ++ [48 + A / 10000 % 10]))) (b := 48 + A / 1000 % 10) (by (try simp only [PT_ol, List.length_append, List.length_cons, List.length_nil]); omega)
    have y2 : (48 : Int64) + Int64.ofInt ((A / 100 % 10 : Nat)) = Int64.ofInt ((48 + A / 100 % 10 : Nat)) := by rw [l_48, l_add]; congr 1
    have z2 : (Int64.ofInt ((48 + A / 100 % 10 : Nat))).toInt32 = Int32.ofNat (48 + A / 100 % 10) := l_32 (by omega)
    have q2 : Int64.ofInt ((A / 100 : Nat)) - Int64.ofInt ((A / 100 : Nat)) / 10 * 10 = Int64.ofInt ((A / 100 % 10 : Nat)) := lr_10 (by omega)
    have u2 : Int64.ofInt ((A : Nat)) / 100 = Int64.ofInt ((A / 100 : Nat)) := lu_100 (by omega)
    have L2 := letter_ok (g := g) (c0 := c0) (s0 := s0) (d := d) (N := N) (v := v) (P := ((Q.wou (Q.ou ++ [48 + A / 10000 % 10])).wou ((Q.wou (Q.ou ++ [48 + A / 10000 % 10])).ou ++ [48 + A / 1000 % 10]))) (b := 48 + A / 100 % 10) (by (try simp only [PT_ol, List.length_append, List.length_cons, List.length_nil]); omega)
    have y3 : (48 : Int64) + Int64.ofInt ((A / 10 % 10 : Nat)) = Int64.ofInt ((48 + A / 10 % 10 : Nat)) := by rw [l_48, l_add]; congr 1
    have z3 : (Int64.ofInt ((48 + A / 10 % 10 : Nat))).toInt32 = Int32.ofNat (48 + A / 10 % 10) := l_32 (by omega)
    have q3 : Int64.ofInt ((A / 10 : Nat)) - Int64.ofInt ((A / 10 : Nat)) / 10 * 10 = Int64.ofInt ((A / 10 % 10 : Nat)) := lr_10 (by omega)
    have u3 : Int64.ofInt ((A : Nat)) / 10 = Int64.ofInt ((A / 10 : Nat)) := lu_10 (by omega)
    have L3 := letter_ok (g := g) (c0 := c0) (s0 := s0) (d := d) (N := N) (v := v) (P := (((Q.wou (Q.ou ++ [48 + A / 10000 % 10])).wou ((Q.wou (Q.ou ++ [48 + A / 10000 % 10])).ou ++ [48 + A / 1000 % 10])).wou (((Q.wou (Q.ou ++ [48 + A / 10000 % 10])).wou ((Q.wou (Q.ou ++ [48 + A / 10000 % 10])).ou ++ [48 + A / 1000 % 10])).ou ++ [48 + A / 100 % 10]))) (b := 48 + A / 10 % 10) (by (try simp only [PT_ol, List.length_append, List.length_cons, List.length_nil]); omega)
    have y4 : (48 : Int64) + Int64.ofInt ((A / 1 % 10 : Nat)) = Int64.ofInt ((48 + A / 1 % 10 : Nat)) := by rw [l_48, l_add]; congr 1
    have z4 : (Int64.ofInt ((48 + A / 1 % 10 : Nat))).toInt32 = Int32.ofNat (48 + A / 1 % 10) := l_32 (by omega)
    have q4 : Int64.ofInt ((A / 1 : Nat)) - Int64.ofInt ((A / 1 : Nat)) / 10 * 10 = Int64.ofInt ((A / 1 % 10 : Nat)) := lr_10 (by omega)
    have u4 : Int64.ofInt ((A : Nat)) / 1 = Int64.ofInt ((A / 1 : Nat)) := lu_1 (by omega)
    have L4 := letter_ok (g := g) (c0 := c0) (s0 := s0) (d := d) (N := N) (v := v) (P := ((((Q.wou (Q.ou ++ [48 + A / 10000 % 10])).wou ((Q.wou (Q.ou ++ [48 + A / 10000 % 10])).ou ++ [48 + A / 1000 % 10])).wou (((Q.wou (Q.ou ++ [48 + A / 10000 % 10])).wou ((Q.wou (Q.ou ++ [48 + A / 10000 % 10])).ou ++ [48 + A / 1000 % 10])).ou ++ [48 + A / 100 % 10])).wou ((((Q.wou (Q.ou ++ [48 + A / 10000 % 10])).wou ((Q.wou (Q.ou ++ [48 + A / 10000 % 10])).ou ++ [48 + A / 1000 % 10])).wou (((Q.wou (Q.ou ++ [48 + A / 10000 % 10])).wou ((Q.wou (Q.ou ++ [48 + A / 10000 % 10])).ou ++ [48 + A / 1000 % 10])).ou ++ [48 + A / 100 % 10])).ou ++ [48 + A / 10 % 10]))) (b := 48 + A / 1 % 10) (by (try simp only [PT_ol, List.length_append, List.length_cons, List.length_nil]); omega)
    have ee : (((((Q.wou (Q.ou ++ [48 + A / 10000 % 10])).wou ((Q.wou (Q.ou ++ [48 + A / 10000 % 10])).ou ++ [48 + A / 1000 % 10])).wou (((Q.wou (Q.ou ++ [48 + A / 10000 % 10])).wou ((Q.wou (Q.ou ++ [48 + A / 10000 % 10])).ou ++ [48 + A / 1000 % 10])).ou ++ [48 + A / 100 % 10])).wou ((((Q.wou (Q.ou ++ [48 + A / 10000 % 10])).wou ((Q.wou (Q.ou ++ [48 + A / 10000 % 10])).ou ++ [48 + A / 1000 % 10])).wou (((Q.wou (Q.ou ++ [48 + A / 10000 % 10])).wou ((Q.wou (Q.ou ++ [48 + A / 10000 % 10])).ou ++ [48 + A / 1000 % 10])).ou ++ [48 + A / 100 % 10])).ou ++ [48 + A / 10 % 10])).wou (((((Q.wou (Q.ou ++ [48 + A / 10000 % 10])).wou ((Q.wou (Q.ou ++ [48 + A / 10000 % 10])).ou ++ [48 + A / 1000 % 10])).wou (((Q.wou (Q.ou ++ [48 + A / 10000 % 10])).wou ((Q.wou (Q.ou ++ [48 + A / 10000 % 10])).ou ++ [48 + A / 1000 % 10])).ou ++ [48 + A / 100 % 10])).wou ((((Q.wou (Q.ou ++ [48 + A / 10000 % 10])).wou ((Q.wou (Q.ou ++ [48 + A / 10000 % 10])).ou ++ [48 + A / 1000 % 10])).wou (((Q.wou (Q.ou ++ [48 + A / 10000 % 10])).wou ((Q.wou (Q.ou ++ [48 + A / 10000 % 10])).ou ++ [48 + A / 1000 % 10])).ou ++ [48 + A / 100 % 10])).ou ++ [48 + A / 10 % 10])).ou ++ [48 + A / 1 % 10])) = (Q.wou (Q.ou ++ [48 + A / 10000 % 10, 48 + A / 1000 % 10, 48 + A / 100 % 10, 48 + A / 10 % 10, 48 + A / 1 % 10])) := by (try simp only [PT_ol, PT_ou, List.append_assoc, List.cons_append, List.nil_append])
    rw [z15_93]
    simp (disch := (refine id ?_; first | with_reducible assumption | exact Nat.ne_of_beq_eq_false rfl | with_unfolding_all exact rfl | with_unfolding_all exact Nat.le_of_ble_eq_true rfl | (simp only [am_cat_nil, am_cat_int, am_cat_ref, am_cat_null, am_cat_long, Nat.reduceAdd, Nat.reduceLeDiff]; done) | omega | exact i_bnd2 (by simp only [am_n, Nat.reduceDiv, Nat.reduceMod, Nat.reduceMul, Nat.reduceAdd]; omega) | decide | fail)) only [z15_94, z15_96, z15_97, z15_99, z15_101, z15_103, z15_106, z15_108, z15_111, z15_112, z15_114, z15_117, z15_120, z15_122, z15_123, z15_124, z15_127, z15_127N, z15_128, z15_128N, z15_129, z15_132, z15_134, z15_136, z15_137, z15_140, z15_141, z15_142, z15_143, z15_146, z15_148, z15_151, z15_152, z15_154, z15_157, HK_v, HK_8, HK_9, HK_11, HK_w, i_m4, i_m6, i_m8, i_m10, i_eqll, i_lell, i_ltll, Nat.reduceEqDiff, Nat.reduceLeDiff, Nat.reduceLT, uq_10000, ud_10000, uq_1000, ud_1000, um_1000, uq_100, ud_100, um_100, uq_10, ud_10, um_10, uq_1, ud_1, um_1, uq_0, y0, z0, q0, u0, L0, y1, z1, q1, u1, L1, y2, z2, q2, u2, L2, y3, z3, q3, u3, L3, y4, z4, q4, u4, L4, i_ltll, Int32.reduceAdd, Int32.reduceLE, ↓reduceIte, i_10, i_00, am_then_some, am_tl1, am_tl0, i_addl, ad2, Nat.reduceAdd, Int32.reduceToNatClampNeg, List.nil_append]
    all_goals exact congrArg (fun z => some ((none : Option Value), HK g c0 s0 N v z)) ee
  have y0 : (lg_cmp (Int64.ofInt y) 0) = (lg_cmp (Int64.ofInt y) (Int64.ofInt 0)) := by rw [← l_0]
  by_cases s : y < 0
  · have c1 : (0 ≤ lg_cmp (Int64.ofInt y) 0) = False := by rw [y0, l_ge (by omega) (by omega) (by decide) (by decide)]; exact eq_false (by omega)
    have n1 : -Int64.ofInt y = Int64.ofInt ((A : Nat)) := by rw [l_neg]; congr 1; omega
    have P1 := LP 6 (by decide)
    obtain ⟨Q, hQ⟩ : ∃ Q, P.wou (P.ou ++ List.replicate (w - 6) 32) = Q := ⟨_, rfl⟩
    have hl : Q.ou.length = P.ou.length + (w - 6) := by rw [← hQ, PT_ol, List.length_append, List.length_replicate]
    rw [hQ] at P1
    simp only [Int32.reduceOfNat] at P1
    have LS : am_M (d + 1) 16 [.ref 124788933419, .ref 124856169512, .int 45] (HK g c0 s0 N v Q) = some (none, HK g c0 s0 N v (Q.wou (Q.ou ++ [45]))) := letter_ok (b := 45) (by omega)
    have E1 := fun l8 l9 l10 => E (Q.wou (Q.ou ++ [45])) l8 l9 l10 (by rw [PT_ol, List.length_append, List.length_singleton]; omega)
    have fin : P.wou (P.ou ++ wr y w) = (Q.wou (Q.ou ++ [45])).wou ((Q.wou (Q.ou ++ [45])).ou ++ [48 + A / 10000 % 10, 48 + A / 1000 % 10, 48 + A / 100 % 10, 48 + A / 10 % 10, 48 + A / 1 % 10]) := by
      unfold wr
      rw [hy, hn, if_pos s, if_pos s, hr, ← hQ]
      simp only [PT_ol, PT_ou, List.append_assoc, List.cons_append, List.nil_append]
    rw [fin, e15 rfl rfl]
    simp (disch := (refine id ?_; first | with_reducible assumption | exact Nat.ne_of_beq_eq_false rfl | with_unfolding_all exact rfl | with_unfolding_all exact Nat.le_of_ble_eq_true rfl | (simp only [am_cat_nil, am_cat_int, am_cat_ref, am_cat_null, am_cat_long, Nat.reduceAdd, Nat.reduceLeDiff]; done) | omega | exact i_bnd2 (by simp only [am_n, Nat.reduceDiv, Nat.reduceMod, Nat.reduceMul, Nat.reduceAdd]; omega) | decide | fail)) only [z15_0, z15_1, z15_2, z15_3, z15_6, z15_7, z15_8, z15_11, z15_12, z15_14, z15_15, z15_17, z15_19, z15_21, z15_23, z15_26, z15_27, z15_30, z15_33, z15_35, z15_38, z15_39, z15_41, z15_44, z15_46, z15_47, z15_48, z15_49, z15_52, z15_53, z15_56, z15_57, z15_58, z15_62, z15_64, z15_67, z15_67N, z15_68, z15_68N, z15_69, z15_71, z15_74, z15_77, z15_80, z15_81, z15_82, z15_83, z15_86, z15_86N, z15_87, z15_87N, z15_88, z15_90, HK_v, HK_8, HK_9, HK_11, HK_w, i_m4, i_m6, i_m8, i_m10, i_eqll, i_lell, i_ltll, Nat.reduceEqDiff, Nat.reduceLeDiff, Nat.reduceLT, c1, n1, g0, d0, g1, d1, g2, d2, g3, d3, g4, P1, LS, E1, Int32.reduceAdd, ↓reduceIte, i_10, i_00, am_then_some, am_tl1, am_tl0, i_addl, ad2, Nat.reduceAdd, Int32.reduceToNatClampNeg, List.nil_append]
  · have c1 : (0 ≤ lg_cmp (Int64.ofInt y) 0) = True := by rw [y0, l_ge (by omega) (by omega) (by decide) (by decide)]; exact eq_true (by omega)
    have n1 : Int64.ofInt y = Int64.ofInt ((A : Nat)) := by congr 1; omega
    rw [n1] at c1 LP E
    have P1 := LP 5 (by decide)
    obtain ⟨Q, hQ⟩ : ∃ Q, P.wou (P.ou ++ List.replicate (w - 5) 32) = Q := ⟨_, rfl⟩
    have hl : Q.ou.length = P.ou.length + (w - 5) := by rw [← hQ, PT_ol, List.length_append, List.length_replicate]
    rw [hQ] at P1
    simp only [Int32.reduceOfNat] at P1
    have E1 := fun l8 l9 l10 => E Q l8 l9 l10 (by omega)
    have fin : P.wou (P.ou ++ wr y w) = (Q.wou (Q.ou ++ [48 + A / 10000 % 10, 48 + A / 1000 % 10, 48 + A / 100 % 10, 48 + A / 10 % 10, 48 + A / 1 % 10])) := by
      unfold wr
      rw [hy, hn, if_neg s, if_neg s, hr, ← hQ]
      simp only [PT_ol, PT_ou, List.append_assoc, List.cons_append, List.nil_append, Nat.add_zero]
    rw [n1, fin, e15 rfl rfl]
    simp (disch := (refine id ?_; first | with_reducible assumption | exact Nat.ne_of_beq_eq_false rfl | with_unfolding_all exact rfl | with_unfolding_all exact Nat.le_of_ble_eq_true rfl | (simp only [am_cat_nil, am_cat_int, am_cat_ref, am_cat_null, am_cat_long, Nat.reduceAdd, Nat.reduceLeDiff]; done) | omega | exact i_bnd2 (by simp only [am_n, Nat.reduceDiv, Nat.reduceMod, Nat.reduceMul, Nat.reduceAdd]; omega) | decide | fail)) only [z15_0, z15_1, z15_2, z15_3, z15_6, z15_7, z15_8, z15_11, z15_12, z15_14, z15_15, z15_17, z15_19, z15_21, z15_23, z15_26, z15_27, z15_30, z15_33, z15_35, z15_38, z15_39, z15_41, z15_44, z15_46, z15_47, z15_48, z15_49, z15_52, z15_53, z15_56, z15_57, z15_58, z15_62, z15_64, z15_67, z15_67N, z15_68, z15_68N, z15_69, z15_71, z15_74, z15_77, z15_80, z15_81, z15_82, z15_83, z15_86, z15_86N, z15_87, z15_87N, z15_88, z15_90, HK_v, HK_8, HK_9, HK_11, HK_w, i_m4, i_m6, i_m8, i_m10, i_eqll, i_lell, i_ltll, Nat.reduceEqDiff, Nat.reduceLeDiff, Nat.reduceLT, c1, g0, d0, g1, d1, g2, d2, g3, d3, g4, P1, E1, Int32.reduceAdd, ↓reduceIte, i_10, i_00, am_then_some, am_tl1, am_tl0, i_addl, ad2, Nat.reduceAdd, Int32.reduceToNatClampNeg, List.nil_append]
theorem wri_ok {g : Nat → Nat → Value} {c0 s0 d N : Nat} {v : Nat → Int} {P : PT} {y : Int} {w : Nat} (h1 : -32768 ≤ y) (h2 : y ≤ 32767) (hw : w < 8) (ho : P.ou.length + 20 < 1999) : am_M (d + 2) 15 [.ref 124788933419, .ref 124856169512, .long (Int64.ofInt y), .int (Int32.ofNat w)] (HK g c0 s0 N v P) = some (none, HK g c0 s0 N v (P.wou (P.ou ++ wr y w))) := by
  by_cases a : y.natAbs < 10
  · exact wri_1 (Nat.zero_le _) a rfl rfl hw ho
  by_cases b : y.natAbs < 100
  · exact wri_2 (by omega) b rfl rfl hw ho
  by_cases c : y.natAbs < 1000
  · exact wri_3 (by omega) c rfl rfl hw ho
  by_cases e : y.natAbs < 10000
  · exact wri_4 (by omega) e rfl rfl hw ho
  exact wri_5 (by omega) (by omega) rfl rfl hw ho
