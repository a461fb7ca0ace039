/-! the law does a program itself: step, down, act, letter, write (printed by gen/doall.py) -/
set_option maxRecDepth 100000
set_option maxHeartbeats 1000000
def HV (g : Nat → Nat → Value) (c0 s0 : Nat) (vv : Nat → Int64) (oo : Nat → Int32) : am_H := (c0, s0, fun a k => if a = 124788933419 then .long (vv k) else if a = 124856169512 then .int (oo k) else g a k)
theorem HV_a0 {g : Nat → Nat → Value} {c0 s0 : Nat} {vv : Nat → Int64} {oo : Nat → Int32} {j : Nat} : am_g (HV g c0 s0 vv oo) 124788933419 j = .long (vv j) := rfl
theorem HV_b0 {g : Nat → Nat → Value} {c0 s0 : Nat} {vv : Nat → Int64} {oo : Nat → Int32} {j : Nat} {w : Int64} : am_p (HV g c0 s0 vv oo) 124788933419 j (.long w) = HV g c0 s0 (up vv j w) oo := by
  refine Prod.ext rfl (Prod.ext rfl ?_)
  funext b i
  show (if b = 124788933419 ∧ i = j then _ else (HV g c0 s0 vv oo).2.2 b i) = (HV g c0 s0 (up vv j w) oo).2.2 b i
  by_cases h : b = 124788933419
  · subst h
    by_cases h2 : i = j
    · subst h2; simp [HV, up]
    · simp [HV, up, h2]
  · simp [HV, h]
theorem HV_a1 {g : Nat → Nat → Value} {c0 s0 : Nat} {vv : Nat → Int64} {oo : Nat → Int32} {j : Nat} : am_g (HV g c0 s0 vv oo) 124856169512 j = .int (oo j) := rfl
theorem HV_b1 {g : Nat → Nat → Value} {c0 s0 : Nat} {vv : Nat → Int64} {oo : Nat → Int32} {j : Nat} {w : Int32} : am_p (HV g c0 s0 vv oo) 124856169512 j (.int w) = HV g c0 s0 vv (up oo j w) := by
  refine Prod.ext rfl (Prod.ext rfl ?_)
  funext b i
  show (if b = 124856169512 ∧ i = j then _ else (HV g c0 s0 vv oo).2.2 b i) = (HV g c0 s0 vv (up oo j w)).2.2 b i
  by_cases h : b = 124856169512
  · subst h
    by_cases h2 : i = j
    · subst h2; simp [HV, up]
    · simp [HV, up, h2]
  · simp [HV, h]
theorem HV_of {h : am_H} {vv : Nat → Int64} {oo : Nat → Int32} (ha0 : ∀ j, am_g h 124788933419 j = .long (vv j)) (ha1 : ∀ j, am_g h 124856169512 j = .int (oo j)) : h = HV h.2.2 h.1 h.2.1 vv oo := by
  refine Prod.ext rfl (Prod.ext rfl ?_)
  funext b j
  refine hs_ite (fun e => by subst e; exact ha0 _) (fun _ => ?_)
  refine hs_ite (fun e => by subst e; exact ha1 _) (fun _ => ?_)
  rfl
theorem l_i {a : Int} (h1 : -4611686018427387904 ≤ a) (h2 : a ≤ 4611686018427387904) : (Int64.ofInt a).toInt = a := Int64.toInt_ofInt_of_le (by omega) (by omega)
theorem l_add {a b : Int} : Int64.ofInt a + Int64.ofInt b = Int64.ofInt (a + b) := (Int64.ofInt_add _ _).symm
theorem l_sub {a b : Int} : Int64.ofInt a - Int64.ofInt b = Int64.ofInt (a - b) := (Int64.ofInt_sub _ _).symm
theorem l_mul {a b : Int} : Int64.ofInt a * Int64.ofInt b = Int64.ofInt (a * b) := (Int64.ofInt_mul _ _).symm
theorem l_neg {a : Int} : -Int64.ofInt a = Int64.ofInt (-a) := (Int64.ofInt_neg _).symm
theorem l_nat {n : Nat} : Int64.ofNat n = Int64.ofInt n := (Int64.ofInt_eq_ofNat (n := n)).symm
theorem l_lt {a b : Int} (h1 : -4611686018427387904 ≤ a) (h2 : a ≤ 4611686018427387904) (h3 : -4611686018427387904 ≤ b) (h4 : b ≤ 4611686018427387904) : (lg_cmp (Int64.ofInt a) (Int64.ofInt b) < 0) = (a < b) := by
  rw [propext (lg_cmp_lt _ _), propext Int64.lt_iff_toInt_lt, l_i h1 h2, l_i h3 h4]
theorem l_le {a b : Int} (h1 : -4611686018427387904 ≤ a) (h2 : a ≤ 4611686018427387904) (h3 : -4611686018427387904 ≤ b) (h4 : b ≤ 4611686018427387904) : (lg_cmp (Int64.ofInt a) (Int64.ofInt b) ≤ 0) = (a ≤ b) := by
  rw [propext (lg_cmp_le _ _), propext Int64.le_iff_toInt_le, l_i h1 h2, l_i h3 h4]
theorem l_ge {a b : Int} (h1 : -4611686018427387904 ≤ a) (h2 : a ≤ 4611686018427387904) (h3 : -4611686018427387904 ≤ b) (h4 : b ≤ 4611686018427387904) : (0 ≤ lg_cmp (Int64.ofInt a) (Int64.ofInt b)) = (b ≤ a) := by
  rw [propext (lg_cmp_ge _ _), propext Int64.le_iff_toInt_le, l_i h1 h2, l_i h3 h4]
theorem l_eq {a b : Int} (h1 : -4611686018427387904 ≤ a) (h2 : a ≤ 4611686018427387904) (h3 : -4611686018427387904 ≤ b) (h4 : b ≤ 4611686018427387904) : (lg_cmp (Int64.ofInt a) (Int64.ofInt b) = 0) = (a = b) := by
  rw [propext (lg_cmp_eq _ _), ← Int64.toInt_inj, l_i h1 h2, l_i h3 h4]
theorem l_0 : (0 : Int64) = Int64.ofInt 0 := by decide
theorem l_1 : (1 : Int64) = Int64.ofInt 1 := by decide
theorem l_3 : (3 : Int64) = Int64.ofInt 3 := by decide
theorem l_4 : (4 : Int64) = Int64.ofInt 4 := by decide
theorem l_9 : (9 : Int64) = Int64.ofInt 9 := by decide
theorem l_10 : (10 : Int64) = Int64.ofInt 10 := by decide
theorem l_48 : (48 : Int64) = Int64.ofInt 48 := by decide
theorem l_2000 : (2000 : Int64) = Int64.ofInt 2000 := by decide
theorem l_m : (-32768 : Int64) = Int64.ofInt (-32768) := by decide
theorem l_x : (32767 : Int64) = Int64.ofInt 32767 := by decide
theorem l_32 {n : Nat} (h : n < 2147483648) : (Int64.ofInt n).toInt32 = Int32.ofNat n := by rw [← l_nat]; exact n_6432 h
theorem l_td {a : Int} {b : Nat} (h1 : -1000000000 ≤ a) (h2 : a ≤ 1000000000) (hb : b < 1000000) : Int64.ofInt a / Int64.ofInt b = Int64.ofInt (a.tdiv b) := by
  apply Int64.toInt_inj.mp
  have k : -1000000000 ≤ a.tdiv b ∧ a.tdiv b ≤ 1000000000 := by
    by_cases c : 0 ≤ a
    · obtain ⟨n, rfl⟩ := Int.eq_ofNat_of_zero_le c
      have : (n : Int).tdiv (b : Int) = ((n / b : Nat) : Int) := rfl
      rw [this]
      have := Nat.div_le_self n b
      generalize n / b = q at *
      omega
    · obtain ⟨n, hn⟩ := Int.eq_ofNat_of_zero_le (show 0 ≤ -a by omega)
      have e : a = -(n : Int) := by omega
      rw [e, Int.neg_tdiv]
      have : (n : Int).tdiv (b : Int) = ((n / b : Nat) : Int) := rfl
      rw [this]
      have := Nat.div_le_self n b
      generalize n / b = q at *
      omega
  rw [Int64.toInt_div, l_i (by omega) (by omega), l_i (by omega) (by omega), l_i (by omega) (by omega)]
  exact Int.bmod_eq_of_le_mul_two (y := 18446744073709551616) (by omega) (by omega)
theorem td_ed {a : Int} {b : Nat} (hb : 1 ≤ b) (hb2 : b ≤ 9) : (if a - a.tdiv b * b < 0 then a.tdiv b - 1 else a.tdiv b) = a / b := by
  by_cases c : 0 ≤ a
  · obtain ⟨n, rfl⟩ := Int.eq_ofNat_of_zero_le c
    have e : (n : Int).tdiv (b : Int) = ((n / b : Nat) : Int) := rfl
    have e2 : (n : Int) / (b : Int) = ((n / b : Nat) : Int) := rfl
    rw [e, e2, if_neg]
    have := Nat.div_mul_le_self n b
    have h3 : ((n / b : Nat) : Int) * (b : Int) = ((n / b * b : Nat) : Int) := rfl
    rw [h3]
    omega
  · obtain ⟨n, hn⟩ := Int.eq_ofNat_of_zero_le (show 0 ≤ -a by omega)
    have e : a = -(n : Int) := by omega
    have e1 : (n : Int).tdiv (b : Int) = ((n / b : Nat) : Int) := rfl
    rw [e, Int.neg_tdiv, e1]
    obtain rfl | rfl | rfl | rfl | rfl | rfl | rfl | rfl | rfl : b = 1 ∨ b = 2 ∨ b = 3 ∨ b = 4 ∨ b = 5 ∨ b = 6 ∨ b = 7 ∨ b = 8 ∨ b = 9 := by omega
    all_goals
      split <;> omega
theorem dn_ok {h : am_H} {d : Nat} {a : Int} {b : Nat} (hb : 1 ≤ b) (hb2 : b ≤ 9) (h1 : -1000000 ≤ a) (h2 : a ≤ 1000000) : am_M (d + 1) 14 [.long (Int64.ofInt a), .long (Int64.ofInt b)] h = some (some (.long (Int64.ofInt (a / b))), h) := by
  have q := l_td (a := a) (b := b) (by omega) (by omega) (by omega)
  have z : ¬ Int64.ofInt (b : Int) = 0 := fun e => by
    have := congrArg Int64.toInt e
    rw [l_i (by omega) (by omega)] at this
    have z0 : (0 : Int64).toInt = 0 := rfl
    rw [z0] at this
    omega
  obtain ⟨t, ht⟩ : ∃ t, a.tdiv b = t := ⟨_, rfl⟩
  have te := td_ed (a := a) (b := b) hb hb2
  rw [ht] at te q
  have tb : -1000000 ≤ a - t * b ∧ a - t * b ≤ 1000000 := by
    have h3 := Int.tmod_def a b
    have h4 := Int.tmod_lt_of_pos a (show 0 < (b : Int) by omega)
    have h5 := Int.lt_tmod_of_pos a (show 0 < (b : Int) by omega)
    rw [ht, Int.mul_comm] at h3
    omega
  have c : (0 ≤ lg_cmp (Int64.ofInt (a - t * b)) 0) = (0 ≤ a - t * b) := by
    rw [l_0]
    exact l_ge (b := 0) (by omega) (by omega) (by decide) (by decide)
  have s1 : Int64.ofInt t - 1 = Int64.ofInt (t - 1) := by rw [l_1]; exact l_sub
  rw [e14]
  by_cases k : 0 ≤ a - t * b
  · have c' := c.trans (eq_true k)
    rw [if_neg (by omega)] at te
    rw [← te]
    simp (disch := (refine id ?_; first | with_reducible assumption | exact Nat.ne_of_beq_eq_false rfl | with_unfolding_all exact rfl | with_unfolding_all exact Nat.le_of_ble_eq_true rfl | (simp only [am_cat_nil, am_cat_int, am_cat_ref, am_cat_null, am_cat_long, Nat.reduceAdd, Nat.reduceLeDiff]; done) | omega | exact i_bnd2 (by simp only [am_n, Nat.reduceDiv, Nat.reduceMod, Nat.reduceMul, Nat.reduceAdd]; omega) | decide | fail)) only [z14_0, z14_1, z14_2, z14_3, z14_5, z14_6, z14_7, z14_8, z14_9, z14_10, z14_13, z14_15, z14_16, z14_17, z14_20, z14_22, HV_a0, HV_a1, HV_b0, HV_b1, q, z, c', l_mul, l_sub, i_m4, i_m6, i_m8, i_m10, i_eqll, i_lell, i_ltll, Nat.reduceEqDiff, Nat.reduceLeDiff, Nat.reduceLT, ↓reduceIte, i_10, i_00, am_then_some, am_tl1, am_tl0, i_addl, ad2, Nat.reduceAdd, Int32.reduceToNatClampNeg, List.nil_append]
  · have c' := c.trans (eq_false k)
    rw [if_pos (by omega)] at te
    rw [← te]
    simp (disch := (refine id ?_; first | with_reducible assumption | exact Nat.ne_of_beq_eq_false rfl | with_unfolding_all exact rfl | with_unfolding_all exact Nat.le_of_ble_eq_true rfl | (simp only [am_cat_nil, am_cat_int, am_cat_ref, am_cat_null, am_cat_long, Nat.reduceAdd, Nat.reduceLeDiff]; done) | omega | exact i_bnd2 (by simp only [am_n, Nat.reduceDiv, Nat.reduceMod, Nat.reduceMul, Nat.reduceAdd]; omega) | decide | fail)) only [z14_0, z14_1, z14_2, z14_3, z14_5, z14_6, z14_7, z14_8, z14_9, z14_10, z14_13, z14_15, z14_16, z14_17, z14_20, z14_22, HV_a0, HV_a1, HV_b0, HV_b1, q, z, c', l_mul, l_sub, s1, i_m4, i_m6, i_m8, i_m10, i_eqll, i_lell, i_ltll, Nat.reduceEqDiff, Nat.reduceLeDiff, Nat.reduceLT, ↓reduceIte, i_10, i_00, am_then_some, am_tl1, am_tl0, i_addl, ad2, Nat.reduceAdd, Int32.reduceToNatClampNeg, List.nil_append]
/-- the law's numbers: variables, steps, the most of them, the latest place, letters -/
def LV (N : Nat) (v : Nat → Int) (P : PT) : Nat → Int64 := fun j => if j < 8 then Int64.ofInt (v j) else if j = 8 then Int64.ofNat P.st else if j = 9 then Int64.ofNat N else if j = 10 then (if P.st = 0 then 0 else P.pl.toInt64) else if j = 11 then Int64.ofNat P.ou.length else 0
def HK (g : Nat → Nat → Value) (c0 s0 N : Nat) (v : Nat → Int) (P : PT) : am_H := HV g c0 s0 (LV N v P) (bF (TF P.ou))
def VRG (v : Nat → Int) : Prop := ∀ j, j < 8 → -32768 ≤ v j ∧ v j ≤ 32767
section
variable {g : Nat → Nat → Value} {c0 s0 d N : Nat} {v : Nat → Int} {P : PT}
theorem HK_v {j : Nat} (h : j < 8) : am_g (HK g c0 s0 N v P) 124788933419 j = .long (Int64.ofInt (v j)) := by
  show Value.long (LV N v P j) = _
  unfold LV
  rw [if_pos h]
theorem HK_8 : am_g (HK g c0 s0 N v P) 124788933419 8 = .long (Int64.ofNat P.st) := rfl
theorem HK_9 : am_g (HK g c0 s0 N v P) 124788933419 9 = .long (Int64.ofNat N) := rfl
theorem HK_11 : am_g (HK g c0 s0 N v P) 124788933419 11 = .long (Int64.ofNat P.ou.length) := rfl
theorem HK_w {j : Nat} {r : Int} (h : j < 8) : am_p (HK g c0 s0 N v P) 124788933419 j (.long (Int64.ofInt r)) = HK g c0 s0 N (up v j r) P := by
  unfold HK
  rw [HV_b0]
  congr 1
  funext i
  unfold LV up
  by_cases e : i = j
  · subst e
    rw [if_pos rfl, if_pos h, if_pos rfl]
  · rw [if_neg e, if_neg e]
theorem HK_ask {pl : Nat} (hpl : pl < 65536) : am_p (am_p (HK g c0 s0 N v P) 124788933419 8 (.long (Int64.ofNat (P.st + 1)))) 124788933419 10 (.long (Int64.ofNat pl)) = HK g c0 s0 N v (P.ask pl) := by
  unfold HK
  rw [HV_b0, HV_b0]
  congr 1
  funext i
  have h1 : (P.ask pl).st = P.st + 1 := rfl
  have h2 : (P.ask pl).pl = Int32.ofNat pl := rfl
  have h3 : (P.ask pl).ou = P.ou := rfl
  have e64 : (Int32.ofNat pl).toInt64 = Int64.ofNat pl := n_i64 (by omega)
  unfold up LV
  rw [h1, h2, h3, e64]
  by_cases e10 : i = 10
  · subst e10
    rw [if_pos rfl, if_neg (by decide), if_neg (by decide), if_neg (by decide), if_pos rfl, if_neg (by omega)]
  · by_cases e8 : i = 8
    · subst e8
      rw [if_neg e10, if_pos rfl, if_neg (by decide), if_pos rfl]
    · simp only [e10, e8, ↓reduceIte]
theorem HK_let {b : Nat} : am_p (am_p (HK g c0 s0 N v P) 124856169512 P.ou.length (.int (Int32.ofNat b))) 124788933419 11 (.long (Int64.ofNat (P.ou.length + 1))) = HK g c0 s0 N v (P.wou (P.ou ++ [b])) := by
  unfold HK
  rw [HV_b1, HV_b0, TF_app]
  congr 1
  funext i
  show (if i = 11 then Int64.ofNat (P.ou.length + 1) else LV N v P i) = LV N v (P.wou (P.ou ++ [b])) i
  by_cases e : i = 11
  · subst e
    show Int64.ofNat (P.ou.length + 1) = Int64.ofNat (P.ou ++ [b]).length
    rw [List.length_append]; rfl
  · rw [if_neg e]
    unfold LV
    by_cases h8 : i < 8
    · rw [if_pos h8, if_pos h8]
    · rw [if_neg h8, if_neg h8]
      by_cases e8 : i = 8
      · subst e8; rfl
      · by_cases e9 : i = 9
        · subst e9; rfl
        · by_cases e10 : i = 10
          · subst e10; rfl
          · rw [if_neg e8, if_neg e9, if_neg e10, if_neg e, if_neg e8, if_neg e9, if_neg e10, if_neg e]
theorem step_ok {pl : Nat} (hpl : pl < 65536) (hs : P.st < 100000) (hN : N < 100000) : am_M (d + 1) 12 [.ref 124788933419, .long (Int64.ofNat pl)] (HK g c0 s0 N v P) = if P.st = N then some (some (.int 0), HK g c0 s0 N v P) else some (some (.int 1), HK g c0 s0 N v (P.ask pl)) := by
  have c : (lg_cmp (Int64.ofNat P.st) (Int64.ofNat N) = 0) = (P.st = N) := by
    rw [l_nat, l_nat, l_eq (by omega) (by omega) (by omega) (by omega)]
    apply propext
    omega
  have a1 : Int64.ofNat P.st + 1 = Int64.ofNat (P.st + 1) := j_add (b := 1)
  have K := HK_ask (g := g) (c0 := c0) (s0 := s0) (N := N) (v := v) (P := P) hpl
  rw [e12 rfl]
  by_cases k : P.st = N
  · have c' := c.trans (eq_true k)
    rw [if_pos k]
    simp (disch := (refine id ?_; first | with_reducible assumption | exact Nat.ne_of_beq_eq_false rfl | with_unfolding_all exact rfl | with_unfolding_all exact Nat.le_of_ble_eq_true rfl | (simp only [am_cat_nil, am_cat_int, am_cat_ref, am_cat_null, am_cat_long, Nat.reduceAdd, Nat.reduceLeDiff]; done) | omega | exact i_bnd2 (by simp only [am_n, Nat.reduceDiv, Nat.reduceMod, Nat.reduceMul, Nat.reduceAdd]; omega) | decide | fail)) only [z12_0, z12_0N, z12_1, z12_3, z12_4, z12_4N, z12_5, z12_7, z12_8, z12_9, z12_12, z12_13, z12_14, z12_14N, z12_15, z12_17, z12_17N, z12_18, z12_20, z12_21, z12_22, z12_23, z12_24, z12_24N, z12_25, z12_27, z12_28, z12_29, z12_30, HK_v, HK_8, HK_9, HK_11, HK_w, i_m4, i_m6, i_m8, i_m10, i_eqll, i_lell, i_ltll, Nat.reduceEqDiff, Nat.reduceLeDiff, Nat.reduceLT, c', ↓reduceIte, i_10, i_00, am_then_some, am_tl1, am_tl0, i_addl, ad2, Nat.reduceAdd, Int32.reduceToNatClampNeg, List.nil_append]
  · have c' := c.trans (eq_false k)
    rw [if_neg k]
    simp (disch := (refine id ?_; first | with_reducible assumption | exact Nat.ne_of_beq_eq_false rfl | with_unfolding_all exact rfl | with_unfolding_all exact Nat.le_of_ble_eq_true rfl | (simp only [am_cat_nil, am_cat_int, am_cat_ref, am_cat_null, am_cat_long, Nat.reduceAdd, Nat.reduceLeDiff]; done) | omega | exact i_bnd2 (by simp only [am_n, Nat.reduceDiv, Nat.reduceMod, Nat.reduceMul, Nat.reduceAdd]; omega) | decide | fail)) only [z12_0, z12_0N, z12_1, z12_3, z12_4, z12_4N, z12_5, z12_7, z12_8, z12_9, z12_12, z12_13, z12_14, z12_14N, z12_15, z12_17, z12_17N, z12_18, z12_20, z12_21, z12_22, z12_23, z12_24, z12_24N, z12_25, z12_27, z12_28, z12_29, z12_30, HK_v, HK_8, HK_9, HK_11, HK_w, i_m4, i_m6, i_m8, i_m10, i_eqll, i_lell, i_ltll, Nat.reduceEqDiff, Nat.reduceLeDiff, Nat.reduceLT, c', a1, K, ↓reduceIte, i_10, i_00, am_then_some, am_tl1, am_tl0, i_addl, ad2, Nat.reduceAdd, Int32.reduceToNatClampNeg, List.nil_append]
theorem letter_ok {b : Nat} (hb : P.ou.length < 2000) : am_M (d + 1) 16 [.ref 124788933419, .ref 124856169512, .int (Int32.ofNat b)] (HK g c0 s0 N v P) = some (none, HK g c0 s0 N v (P.wou (P.ou ++ [b]))) := by
  have c : (0 ≤ lg_cmp (Int64.ofNat P.ou.length) 2000) = False := by
    rw [l_nat, l_2000, l_ge (by omega) (by omega) (by decide) (by decide)]
    exact eq_false (by omega)
  have a1 : Int64.ofNat P.ou.length + 1 = Int64.ofNat (P.ou.length + 1) := j_add (b := 1)
  have a2 : (Int64.ofNat P.ou.length).toInt32 = Int32.ofNat P.ou.length := n_6432 (by omega)
  have a3 : (Int32.ofNat P.ou.length).toNatClampNeg = P.ou.length := tn_of (by omega)
  have K := HK_let (g := g) (c0 := c0) (s0 := s0) (N := N) (v := v) (P := P) (b := b)
  have r11 : am_g (am_p (HK g c0 s0 N v P) 124856169512 P.ou.length (.int (Int32.ofNat b))) 124788933419 11 = .long (Int64.ofNat P.ou.length) := by
    unfold HK
    rw [HV_b1]
    rfl
  rw [e16 rfl rfl]
  simp (disch := (refine id ?_; first | with_reducible assumption | exact Nat.ne_of_beq_eq_false rfl | with_unfolding_all exact rfl | with_unfolding_all exact Nat.le_of_ble_eq_true rfl | (simp only [am_cat_nil, am_cat_int, am_cat_ref, am_cat_null, am_cat_long, Nat.reduceAdd, Nat.reduceLeDiff]; done) | omega | exact i_bnd2 (by simp only [am_n, Nat.reduceDiv, Nat.reduceMod, Nat.reduceMul, Nat.reduceAdd]; omega) | decide | fail)) only [z16_0, z16_0N, z16_1, z16_3, z16_4, z16_7, z16_8, z16_11, z16_11N, z16_12, z16_12N, z16_13, z16_15, z16_16, z16_17, z16_18, z16_19, z16_19N, z16_20, z16_22, z16_22N, z16_23, z16_25, z16_26, z16_27, z16_28, z16_29, HK_v, HK_8, HK_9, HK_11, HK_w, i_m4, i_m6, i_m8, i_m10, i_eqll, i_lell, i_ltll, Nat.reduceEqDiff, Nat.reduceLeDiff, Nat.reduceLT, c, a1, a2, a3, K, r11, ↓reduceIte, i_10, i_00, am_then_some, am_tl1, am_tl0, i_addl, ad2, Nat.reduceAdd, Int32.reduceToNatClampNeg, List.nil_append]
theorem act_0 {x : Int32} (hk : xbt x 0 7 = 0) (hv : VRG v) : am_M (d + 3) 13 [.ref 124788933419, .int x] (HK g c0 s0 N v P) = some (some (.int (Int32.ofNat (actF (stOf x) v).1)), HK g c0 s0 N (actF (stOf x) v).2 P) := by
  have hx : x &&& 7 = 0 := xbt_7.trans (by rw [hk]; rfl)
  have hw : -32768 ≤ v (xbt x 6 3) ∧ v (xbt x 6 3) ≤ 32767 := hv _ (by have := n3 (x := x) (s := 6); omega)
  have hu : -32768 ≤ v (xbt x 8 3) ∧ v (xbt x 8 3) ≤ 32767 := hv _ (by have := n3 (x := x) (s := 8); omega)
  have i4 := n3 (x := x) (s := 4)
  have i6 := n3 (x := x) (s := 6)
  have i8 := n3 (x := x) (s := 8)
  have l10 := xbt_le (x := x) (s := 10) (m := 31)
  have hc := cst_lt (x := x)
  have hn := nn_lt (x := x)
  obtain ⟨a, ea⟩ : ∃ a, xbt x 4 3 = a := ⟨_, rfl⟩
  obtain ⟨w, ew⟩ : ∃ w, xbt x 6 3 = w := ⟨_, rfl⟩
  obtain ⟨u, eu⟩ : ∃ u, xbt x 8 3 = u := ⟨_, rfl⟩
  obtain ⟨c, ec⟩ : ∃ c, cst x = c := ⟨_, rfl⟩
  obtain ⟨n, en⟩ : ∃ n, nn x = n := ⟨_, rfl⟩
  have x4 : x >>> 4 &&& 3 = Int32.ofNat a := by rw [← ea]; exact xbt_s (by decide) (by decide)
  have x6 : x >>> 6 &&& 3 = Int32.ofNat w := by rw [← ew]; exact xbt_s (by decide) (by decide)
  have x8 : x >>> 8 &&& 3 = Int32.ofNat u := by rw [← eu]; exact xbt_s (by decide) (by decide)
  have xc : ∀ (d : Nat) (h : am_H), am_M (d + 1) 9 [.int x] h = some (some (.int (Int32.ofNat c)), h) := fun d h => by rw [← ec]; exact cst_ok
  have xn : (1 : Int64) + (Int32.ofNat (xbt x 10 31) - Int32.ofNat (xbt x 10 31) / 9 * 9).toInt64 = Int64.ofInt n := by
    rw [n_rem (by omega) (by decide), n_i64 (by show xbt x 10 31 % 9 < 2147483648; omega), l_1, l_nat, l_add, ← en]
    rfl
  have b4 := n_bnd (n := a) (a := 124788933419) (by show a < 12; omega) (by omega)
  have b6 := n_bnd (n := w) (a := 124788933419) (by show w < 12; omega) (by omega)
  have b8 := n_bnd (n := u) (a := 124788933419) (by show u < 12; omega) (by omega)
  have t4 : (Int32.ofNat a).toNatClampNeg = a := tn_of (by omega)
  have t6 : (Int32.ofNat w).toNatClampNeg = w := tn_of (by omega)
  have t8 : (Int32.ofNat u).toNatClampNeg = u := tn_of (by omega)
  have ci : (Int32.ofNat c).toInt64 = Int64.ofInt c := by rw [n_i64 (by omega), l_nat]
  rw [ew] at hw i6
  rw [eu] at hu i8
  rw [ea] at i4
  rw [ec] at hc
  rw [en] at hn
  obtain ⟨W, eW⟩ : ∃ W, v w = W := ⟨_, rfl⟩
  obtain ⟨U, eU⟩ : ∃ U, v u = U := ⟨_, rfl⟩
  have r6 : am_g (HK g c0 s0 N v P) 124788933419 w = .long (Int64.ofInt W) := by rw [HK_v (by omega), eW]
  have r8 : am_g (HK g c0 s0 N v P) 124788933419 u = .long (Int64.ofInt U) := by rw [HK_v (by omega), eU]
  rw [eW] at hw
  rw [eU] at hu
  have hs : stOf x = St.add a w u := by unfold stOf; rw [hk, ea, ew, eu]; rfl
  obtain ⟨R, eR⟩ : ∃ R : Int, W + U = R := ⟨_, rfl⟩

  have hR : -4000000000 ≤ R ∧ R ≤ 4000000000 := by
    omega
  have k1 : (lg_cmp (Int64.ofInt R) (-32768) < 0) = (R < -32768) := by rw [l_m]; exact l_lt (by omega) (by omega) (by decide) (by decide)
  have k2 : (lg_cmp (Int64.ofInt R) 32767 ≤ 0) = (R ≤ 32767) := by rw [l_x]; exact l_le (by omega) (by omega) (by decide) (by decide)
  have hW : am_p (HK g c0 s0 N v P) 124788933419 a (.long (Int64.ofInt R)) = HK g c0 s0 N (up v a R) P := HK_w (by omega)
  have fin : actF (stOf x) v = chk v a R := by
    rw [hs]
    show chk v a _ = _
    rw [eW, eU, eR]
  by_cases q1 : R < -32768
  · have k1' := k1.trans (eq_true q1)
    have F : chk v a R = (3, v) := if_neg (by omega)
    rw [fin, F]
    rw [e13 rfl]
    simp (disch := (refine id ?_; first | with_reducible assumption | exact Nat.ne_of_beq_eq_false rfl | with_unfolding_all exact rfl | with_unfolding_all exact Nat.le_of_ble_eq_true rfl | (simp only [am_cat_nil, am_cat_int, am_cat_ref, am_cat_null, am_cat_long, Nat.reduceAdd, Nat.reduceLeDiff]; done) | omega | exact i_bnd2 (by simp only [am_n, Nat.reduceDiv, Nat.reduceMod, Nat.reduceMul, Nat.reduceAdd]; omega) | decide | fail)) only [z13_0, z13_1, z13_3, z13_4, z13_5, z13_5N, z13_6, z13_7, z13_9, z13_10, z13_11, z13_12, z13_13, z13_14, z13_14N, z13_15, z13_16, z13_18, z13_19, z13_20, z13_21, z13_22, z13_24, z13_25, z13_26, z13_28, z13_29, z13_31, z13_32, z13_34, z13_35, z13_36, z13_37, z13_39, z13_40, z13_41, z13_44, z13_44N, z13_45, z13_46, z13_47, z13_50, z13_51, z13_54, z13_57, z13_58, z13_59, z13_60, z13_61, z13_63, z13_64, z13_65, z13_66, z13_67, z13_69, z13_72, z13_73, z13_74, z13_75, z13_78, z13_79, z13_82, z13_83, z13_86, z13_87, z13_88, z13_89, z13_92, z13_93, z13_95, z13_96, z13_99, z13_100, z13_101, z13_104, z13_105, z13_106, z13_109, z13_110, z13_111, z13_114, z13_115, z13_116, z13_119, z13_120, z13_122, z13_123, z13_126, z13_127, z13_128, z13_131, z13_132, z13_134, z13_137, z13_140, z13_141, z13_142, z13_145, z13_146, z13_148, z13_149, z13_151, z13_154, z13_155, z13_156, z13_159, z13_160, z13_162, z13_165, z13_165N, z13_166, z13_167, z13_168, z13_169, z13_170, z13_171, z13_174, z13_175, z13_178, z13_179, z13_181, z13_183, z13_186, z13_187, z13_190, z13_192, z13_195, z13_196, z13_199, z13_200, z13_201, z13_201N, z13_202, z13_203, z13_204, z13_205, z13_206, z13_207, z13_209, z13_210, z13_211, x4, x6, x8, xc, xn, b4, b6, b8, t4, t6, t8, ci, r6, r8, xbt_10, i_m4, i_m6, i_m8, i_m10, i_eqll, i_lell, i_ltll, Nat.reduceEqDiff, Nat.reduceLeDiff, Nat.reduceLT, k1', hx, l_add, eR, ↓reduceIte, i_10, i_00, am_then_some, am_tl1, am_tl0, i_addl, ad2, Nat.reduceAdd, Int32.reduceToNatClampNeg, List.nil_append]
    rfl
  · have k1' := k1.trans (eq_false q1)
    by_cases q2 : R ≤ 32767
    · have k2' := k2.trans (eq_true q2)
      have F : chk v a R = (0, up v a R) := if_pos (by omega)
      rw [fin, F]
      rw [e13 rfl]
      simp (disch := (refine id ?_; first | with_reducible assumption | exact Nat.ne_of_beq_eq_false rfl | with_unfolding_all exact rfl | with_unfolding_all exact Nat.le_of_ble_eq_true rfl | (simp only [am_cat_nil, am_cat_int, am_cat_ref, am_cat_null, am_cat_long, Nat.reduceAdd, Nat.reduceLeDiff]; done) | omega | exact i_bnd2 (by simp only [am_n, Nat.reduceDiv, Nat.reduceMod, Nat.reduceMul, Nat.reduceAdd]; omega) | decide | fail)) only [z13_0, z13_1, z13_3, z13_4, z13_5, z13_5N, z13_6, z13_7, z13_9, z13_10, z13_11, z13_12, z13_13, z13_14, z13_14N, z13_15, z13_16, z13_18, z13_19, z13_20, z13_21, z13_22, z13_24, z13_25, z13_26, z13_28, z13_29, z13_31, z13_32, z13_34, z13_35, z13_36, z13_37, z13_39, z13_40, z13_41, z13_44, z13_44N, z13_45, z13_46, z13_47, z13_50, z13_51, z13_54, z13_57, z13_58, z13_59, z13_60, z13_61, z13_63, z13_64, z13_65, z13_66, z13_67, z13_69, z13_72, z13_73, z13_74, z13_75, z13_78, z13_79, z13_82, z13_83, z13_86, z13_87, z13_88, z13_89, z13_92, z13_93, z13_95, z13_96, z13_99, z13_100, z13_101, z13_104, z13_105, z13_106, z13_109, z13_110, z13_111, z13_114, z13_115, z13_116, z13_119, z13_120, z13_122, z13_123, z13_126, z13_127, z13_128, z13_131, z13_132, z13_134, z13_137, z13_140, z13_141, z13_142, z13_145, z13_146, z13_148, z13_149, z13_151, z13_154, z13_155, z13_156, z13_159, z13_160, z13_162, z13_165, z13_165N, z13_166, z13_167, z13_168, z13_169, z13_170, z13_171, z13_174, z13_175, z13_178, z13_179, z13_181, z13_183, z13_186, z13_187, z13_190, z13_192, z13_195, z13_196, z13_199, z13_200, z13_201, z13_201N, z13_202, z13_203, z13_204, z13_205, z13_206, z13_207, z13_209, z13_210, z13_211, x4, x6, x8, xc, xn, b4, b6, b8, t4, t6, t8, ci, r6, r8, xbt_10, i_m4, i_m6, i_m8, i_m10, i_eqll, i_lell, i_ltll, Nat.reduceEqDiff, Nat.reduceLeDiff, Nat.reduceLT, k1', k2', hW, hx, l_add, eR, ↓reduceIte, i_10, i_00, am_then_some, am_tl1, am_tl0, i_addl, ad2, Nat.reduceAdd, Int32.reduceToNatClampNeg, List.nil_append]
      rfl
    · have k2' := k2.trans (eq_false q2)
      have F : chk v a R = (3, v) := if_neg (by omega)
      rw [fin, F]
      rw [e13 rfl]
      simp (disch := (refine id ?_; first | with_reducible assumption | exact Nat.ne_of_beq_eq_false rfl | with_unfolding_all exact rfl | with_unfolding_all exact Nat.le_of_ble_eq_true rfl | (simp only [am_cat_nil, am_cat_int, am_cat_ref, am_cat_null, am_cat_long, Nat.reduceAdd, Nat.reduceLeDiff]; done) | omega | exact i_bnd2 (by simp only [am_n, Nat.reduceDiv, Nat.reduceMod, Nat.reduceMul, Nat.reduceAdd]; omega) | decide | fail)) only [z13_0, z13_1, z13_3, z13_4, z13_5, z13_5N, z13_6, z13_7, z13_9, z13_10, z13_11, z13_12, z13_13, z13_14, z13_14N, z13_15, z13_16, z13_18, z13_19, z13_20, z13_21, z13_22, z13_24, z13_25, z13_26, z13_28, z13_29, z13_31, z13_32, z13_34, z13_35, z13_36, z13_37, z13_39, z13_40, z13_41, z13_44, z13_44N, z13_45, z13_46, z13_47, z13_50, z13_51, z13_54, z13_57, z13_58, z13_59, z13_60, z13_61, z13_63, z13_64, z13_65, z13_66, z13_67, z13_69, z13_72, z13_73, z13_74, z13_75, z13_78, z13_79, z13_82, z13_83, z13_86, z13_87, z13_88, z13_89, z13_92, z13_93, z13_95, z13_96, z13_99, z13_100, z13_101, z13_104, z13_105, z13_106, z13_109, z13_110, z13_111, z13_114, z13_115, z13_116, z13_119, z13_120, z13_122, z13_123, z13_126, z13_127, z13_128, z13_131, z13_132, z13_134, z13_137, z13_140, z13_141, z13_142, z13_145, z13_146, z13_148, z13_149, z13_151, z13_154, z13_155, z13_156, z13_159, z13_160, z13_162, z13_165, z13_165N, z13_166, z13_167, z13_168, z13_169, z13_170, z13_171, z13_174, z13_175, z13_178, z13_179, z13_181, z13_183, z13_186, z13_187, z13_190, z13_192, z13_195, z13_196, z13_199, z13_200, z13_201, z13_201N, z13_202, z13_203, z13_204, z13_205, z13_206, z13_207, z13_209, z13_210, z13_211, x4, x6, x8, xc, xn, b4, b6, b8, t4, t6, t8, ci, r6, r8, xbt_10, i_m4, i_m6, i_m8, i_m10, i_eqll, i_lell, i_ltll, Nat.reduceEqDiff, Nat.reduceLeDiff, Nat.reduceLT, k1', k2', hx, l_add, eR, ↓reduceIte, i_10, i_00, am_then_some, am_tl1, am_tl0, i_addl, ad2, Nat.reduceAdd, Int32.reduceToNatClampNeg, List.nil_append]
      rfl
theorem act_1 {x : Int32} (hk : xbt x 0 7 = 1) (hv : VRG v) : am_M (d + 3) 13 [.ref 124788933419, .int x] (HK g c0 s0 N v P) = some (some (.int (Int32.ofNat (actF (stOf x) v).1)), HK g c0 s0 N (actF (stOf x) v).2 P) := by
  have hx : x &&& 7 = 1 := xbt_7.trans (by rw [hk]; rfl)
  have hw : -32768 ≤ v (xbt x 6 3) ∧ v (xbt x 6 3) ≤ 32767 := hv _ (by have := n3 (x := x) (s := 6); omega)
  have hu : -32768 ≤ v (xbt x 8 3) ∧ v (xbt x 8 3) ≤ 32767 := hv _ (by have := n3 (x := x) (s := 8); omega)
  have i4 := n3 (x := x) (s := 4)
  have i6 := n3 (x := x) (s := 6)
  have i8 := n3 (x := x) (s := 8)
  have l10 := xbt_le (x := x) (s := 10) (m := 31)
  have hc := cst_lt (x := x)
  have hn := nn_lt (x := x)
  obtain ⟨a, ea⟩ : ∃ a, xbt x 4 3 = a := ⟨_, rfl⟩
  obtain ⟨w, ew⟩ : ∃ w, xbt x 6 3 = w := ⟨_, rfl⟩
  obtain ⟨u, eu⟩ : ∃ u, xbt x 8 3 = u := ⟨_, rfl⟩
  obtain ⟨c, ec⟩ : ∃ c, cst x = c := ⟨_, rfl⟩
  obtain ⟨n, en⟩ : ∃ n, nn x = n := ⟨_, rfl⟩
  have x4 : x >>> 4 &&& 3 = Int32.ofNat a := by rw [← ea]; exact xbt_s (by decide) (by decide)
  have x6 : x >>> 6 &&& 3 = Int32.ofNat w := by rw [← ew]; exact xbt_s (by decide) (by decide)
  have x8 : x >>> 8 &&& 3 = Int32.ofNat u := by rw [← eu]; exact xbt_s (by decide) (by decide)
  have xc : ∀ (d : Nat) (h : am_H), am_M (d + 1) 9 [.int x] h = some (some (.int (Int32.ofNat c)), h) := fun d h => by rw [← ec]; exact cst_ok
  have xn : (1 : Int64) + (Int32.ofNat (xbt x 10 31) - Int32.ofNat (xbt x 10 31) / 9 * 9).toInt64 = Int64.ofInt n := by
    rw [n_rem (by omega) (by decide), n_i64 (by show xbt x 10 31 % 9 < 2147483648; omega), l_1, l_nat, l_add, ← en]
    rfl
  have b4 := n_bnd (n := a) (a := 124788933419) (by show a < 12; omega) (by omega)
  have b6 := n_bnd (n := w) (a := 124788933419) (by show w < 12; omega) (by omega)
  have b8 := n_bnd (n := u) (a := 124788933419) (by show u < 12; omega) (by omega)
  have t4 : (Int32.ofNat a).toNatClampNeg = a := tn_of (by omega)
  have t6 : (Int32.ofNat w).toNatClampNeg = w := tn_of (by omega)
  have t8 : (Int32.ofNat u).toNatClampNeg = u := tn_of (by omega)
  have ci : (Int32.ofNat c).toInt64 = Int64.ofInt c := by rw [n_i64 (by omega), l_nat]
  rw [ew] at hw i6
  rw [eu] at hu i8
  rw [ea] at i4
  rw [ec] at hc
  rw [en] at hn
  obtain ⟨W, eW⟩ : ∃ W, v w = W := ⟨_, rfl⟩
  obtain ⟨U, eU⟩ : ∃ U, v u = U := ⟨_, rfl⟩
  have r6 : am_g (HK g c0 s0 N v P) 124788933419 w = .long (Int64.ofInt W) := by rw [HK_v (by omega), eW]
  have r8 : am_g (HK g c0 s0 N v P) 124788933419 u = .long (Int64.ofInt U) := by rw [HK_v (by omega), eU]
  rw [eW] at hw
  rw [eU] at hu
  have hs : stOf x = St.sub a w c := by unfold stOf; rw [hk, ea, ew, ec]; rfl
  obtain ⟨R, eR⟩ : ∃ R : Int, W - (c : Int) = R := ⟨_, rfl⟩

  have hR : -4000000000 ≤ R ∧ R ≤ 4000000000 := by
    omega
  have k1 : (lg_cmp (Int64.ofInt R) (-32768) < 0) = (R < -32768) := by rw [l_m]; exact l_lt (by omega) (by omega) (by decide) (by decide)
  have k2 : (lg_cmp (Int64.ofInt R) 32767 ≤ 0) = (R ≤ 32767) := by rw [l_x]; exact l_le (by omega) (by omega) (by decide) (by decide)
  have hW : am_p (HK g c0 s0 N v P) 124788933419 a (.long (Int64.ofInt R)) = HK g c0 s0 N (up v a R) P := HK_w (by omega)
  have fin : actF (stOf x) v = chk v a R := by
    rw [hs]
    show chk v a _ = _
    rw [eW, eR]
  by_cases q1 : R < -32768
  · have k1' := k1.trans (eq_true q1)
    have F : chk v a R = (3, v) := if_neg (by omega)
    rw [fin, F]
    rw [e13 rfl]
    simp (disch := (refine id ?_; first | with_reducible assumption | exact Nat.ne_of_beq_eq_false rfl | with_unfolding_all exact rfl | with_unfolding_all exact Nat.le_of_ble_eq_true rfl | (simp only [am_cat_nil, am_cat_int, am_cat_ref, am_cat_null, am_cat_long, Nat.reduceAdd, Nat.reduceLeDiff]; done) | omega | exact i_bnd2 (by simp only [am_n, Nat.reduceDiv, Nat.reduceMod, Nat.reduceMul, Nat.reduceAdd]; omega) | decide | fail)) only [z13_0, z13_1, z13_3, z13_4, z13_5, z13_5N, z13_6, z13_7, z13_9, z13_10, z13_11, z13_12, z13_13, z13_14, z13_14N, z13_15, z13_16, z13_18, z13_19, z13_20, z13_21, z13_22, z13_24, z13_25, z13_26, z13_28, z13_29, z13_31, z13_32, z13_34, z13_35, z13_36, z13_37, z13_39, z13_40, z13_41, z13_44, z13_44N, z13_45, z13_46, z13_47, z13_50, z13_51, z13_54, z13_57, z13_58, z13_59, z13_60, z13_61, z13_63, z13_64, z13_65, z13_66, z13_67, z13_69, z13_72, z13_73, z13_74, z13_75, z13_78, z13_79, z13_82, z13_83, z13_86, z13_87, z13_88, z13_89, z13_92, z13_93, z13_95, z13_96, z13_99, z13_100, z13_101, z13_104, z13_105, z13_106, z13_109, z13_110, z13_111, z13_114, z13_115, z13_116, z13_119, z13_120, z13_122, z13_123, z13_126, z13_127, z13_128, z13_131, z13_132, z13_134, z13_137, z13_140, z13_141, z13_142, z13_145, z13_146, z13_148, z13_149, z13_151, z13_154, z13_155, z13_156, z13_159, z13_160, z13_162, z13_165, z13_165N, z13_166, z13_167, z13_168, z13_169, z13_170, z13_171, z13_174, z13_175, z13_178, z13_179, z13_181, z13_183, z13_186, z13_187, z13_190, z13_192, z13_195, z13_196, z13_199, z13_200, z13_201, z13_201N, z13_202, z13_203, z13_204, z13_205, z13_206, z13_207, z13_209, z13_210, z13_211, x4, x6, x8, xc, xn, b4, b6, b8, t4, t6, t8, ci, r6, r8, xbt_10, i_m4, i_m6, i_m8, i_m10, i_eqll, i_lell, i_ltll, Nat.reduceEqDiff, Nat.reduceLeDiff, Nat.reduceLT, k1', hx, l_sub, eR, ↓reduceIte, i_10, i_00, am_then_some, am_tl1, am_tl0, i_addl, ad2, Nat.reduceAdd, Int32.reduceToNatClampNeg, List.nil_append]
    rfl
  · have k1' := k1.trans (eq_false q1)
    by_cases q2 : R ≤ 32767
    · have k2' := k2.trans (eq_true q2)
      have F : chk v a R = (0, up v a R) := if_pos (by omega)
      rw [fin, F]
      rw [e13 rfl]
      simp (disch := (refine id ?_; first | with_reducible assumption | exact Nat.ne_of_beq_eq_false rfl | with_unfolding_all exact rfl | with_unfolding_all exact Nat.le_of_ble_eq_true rfl | (simp only [am_cat_nil, am_cat_int, am_cat_ref, am_cat_null, am_cat_long, Nat.reduceAdd, Nat.reduceLeDiff]; done) | omega | exact i_bnd2 (by simp only [am_n, Nat.reduceDiv, Nat.reduceMod, Nat.reduceMul, Nat.reduceAdd]; omega) | decide | fail)) only [z13_0, z13_1, z13_3, z13_4, z13_5, z13_5N, z13_6, z13_7, z13_9, z13_10, z13_11, z13_12, z13_13, z13_14, z13_14N, z13_15, z13_16, z13_18, z13_19, z13_20, z13_21, z13_22, z13_24, z13_25, z13_26, z13_28, z13_29, z13_31, z13_32, z13_34, z13_35, z13_36, z13_37, z13_39, z13_40, z13_41, z13_44, z13_44N, z13_45, z13_46, z13_47, z13_50, z13_51, z13_54, z13_57, z13_58, z13_59, z13_60, z13_61, z13_63, z13_64, z13_65, z13_66, z13_67, z13_69, z13_72, z13_73, z13_74, z13_75, z13_78, z13_79, z13_82, z13_83, z13_86, z13_87, z13_88, z13_89, z13_92, z13_93, z13_95, z13_96, z13_99, z13_100, z13_101, z13_104, z13_105, z13_106, z13_109, z13_110, z13_111, z13_114, z13_115, z13_116, z13_119, z13_120, z13_122, z13_123, z13_126, z13_127, z13_128, z13_131, z13_132, z13_134, z13_137, z13_140, z13_141, z13_142, z13_145, z13_146, z13_148, z13_149, z13_151, z13_154, z13_155, z13_156, z13_159, z13_160, z13_162, z13_165, z13_165N, z13_166, z13_167, z13_168, z13_169, z13_170, z13_171, z13_174, z13_175, z13_178, z13_179, z13_181, z13_183, z13_186, z13_187, z13_190, z13_192, z13_195, z13_196, z13_199, z13_200, z13_201, z13_201N, z13_202, z13_203, z13_204, z13_205, z13_206, z13_207, z13_209, z13_210, z13_211, x4, x6, x8, xc, xn, b4, b6, b8, t4, t6, t8, ci, r6, r8, xbt_10, i_m4, i_m6, i_m8, i_m10, i_eqll, i_lell, i_ltll, Nat.reduceEqDiff, Nat.reduceLeDiff, Nat.reduceLT, k1', k2', hW, hx, l_sub, eR, ↓reduceIte, i_10, i_00, am_then_some, am_tl1, am_tl0, i_addl, ad2, Nat.reduceAdd, Int32.reduceToNatClampNeg, List.nil_append]
      rfl
    · have k2' := k2.trans (eq_false q2)
      have F : chk v a R = (3, v) := if_neg (by omega)
      rw [fin, F]
      rw [e13 rfl]
      simp (disch := (refine id ?_; first | with_reducible assumption | exact Nat.ne_of_beq_eq_false rfl | with_unfolding_all exact rfl | with_unfolding_all exact Nat.le_of_ble_eq_true rfl | (simp only [am_cat_nil, am_cat_int, am_cat_ref, am_cat_null, am_cat_long, Nat.reduceAdd, Nat.reduceLeDiff]; done) | omega | exact i_bnd2 (by simp only [am_n, Nat.reduceDiv, Nat.reduceMod, Nat.reduceMul, Nat.reduceAdd]; omega) | decide | fail)) only [z13_0, z13_1, z13_3, z13_4, z13_5, z13_5N, z13_6, z13_7, z13_9, z13_10, z13_11, z13_12, z13_13, z13_14, z13_14N, z13_15, z13_16, z13_18, z13_19, z13_20, z13_21, z13_22, z13_24, z13_25, z13_26, z13_28, z13_29, z13_31, z13_32, z13_34, z13_35, z13_36, z13_37, z13_39, z13_40, z13_41, z13_44, z13_44N, z13_45, z13_46, z13_47, z13_50, z13_51, z13_54, z13_57, z13_58, z13_59, z13_60, z13_61, z13_63, z13_64, z13_65, z13_66, z13_67, z13_69, z13_72, z13_73, z13_74, z13_75, z13_78, z13_79, z13_82, z13_83, z13_86, z13_87, z13_88, z13_89, z13_92, z13_93, z13_95, z13_96, z13_99, z13_100, z13_101, z13_104, z13_105, z13_106, z13_109, z13_110, z13_111, z13_114, z13_115, z13_116, z13_119, z13_120, z13_122, z13_123, z13_126, z13_127, z13_128, z13_131, z13_132, z13_134, z13_137, z13_140, z13_141, z13_142, z13_145, z13_146, z13_148, z13_149, z13_151, z13_154, z13_155, z13_156, z13_159, z13_160, z13_162, z13_165, z13_165N, z13_166, z13_167, z13_168, z13_169, z13_170, z13_171, z13_174, z13_175, z13_178, z13_179, z13_181, z13_183, z13_186, z13_187, z13_190, z13_192, z13_195, z13_196, z13_199, z13_200, z13_201, z13_201N, z13_202, z13_203, z13_204, z13_205, z13_206, z13_207, z13_209, z13_210, z13_211, x4, x6, x8, xc, xn, b4, b6, b8, t4, t6, t8, ci, r6, r8, xbt_10, i_m4, i_m6, i_m8, i_m10, i_eqll, i_lell, i_ltll, Nat.reduceEqDiff, Nat.reduceLeDiff, Nat.reduceLT, k1', k2', hx, l_sub, eR, ↓reduceIte, i_10, i_00, am_then_some, am_tl1, am_tl0, i_addl, ad2, Nat.reduceAdd, Int32.reduceToNatClampNeg, List.nil_append]
      rfl
theorem act_2 {x : Int32} (hk : xbt x 0 7 = 2) (hv : VRG v) : am_M (d + 3) 13 [.ref 124788933419, .int x] (HK g c0 s0 N v P) = some (some (.int (Int32.ofNat (actF (stOf x) v).1)), HK g c0 s0 N (actF (stOf x) v).2 P) := by
  have hx : x &&& 7 = 2 := xbt_7.trans (by rw [hk]; rfl)
  have hw : -32768 ≤ v (xbt x 6 3) ∧ v (xbt x 6 3) ≤ 32767 := hv _ (by have := n3 (x := x) (s := 6); omega)
  have hu : -32768 ≤ v (xbt x 8 3) ∧ v (xbt x 8 3) ≤ 32767 := hv _ (by have := n3 (x := x) (s := 8); omega)
  have i4 := n3 (x := x) (s := 4)
  have i6 := n3 (x := x) (s := 6)
  have i8 := n3 (x := x) (s := 8)
  have l10 := xbt_le (x := x) (s := 10) (m := 31)
  have hc := cst_lt (x := x)
  have hn := nn_lt (x := x)
  obtain ⟨a, ea⟩ : ∃ a, xbt x 4 3 = a := ⟨_, rfl⟩
  obtain ⟨w, ew⟩ : ∃ w, xbt x 6 3 = w := ⟨_, rfl⟩
  obtain ⟨u, eu⟩ : ∃ u, xbt x 8 3 = u := ⟨_, rfl⟩
  obtain ⟨c, ec⟩ : ∃ c, cst x = c := ⟨_, rfl⟩
  obtain ⟨n, en⟩ : ∃ n, nn x = n := ⟨_, rfl⟩
  have x4 : x >>> 4 &&& 3 = Int32.ofNat a := by rw [← ea]; exact xbt_s (by decide) (by decide)
  have x6 : x >>> 6 &&& 3 = Int32.ofNat w := by rw [← ew]; exact xbt_s (by decide) (by decide)
  have x8 : x >>> 8 &&& 3 = Int32.ofNat u := by rw [← eu]; exact xbt_s (by decide) (by decide)
  have xc : ∀ (d : Nat) (h : am_H), am_M (d + 1) 9 [.int x] h = some (some (.int (Int32.ofNat c)), h) := fun d h => by rw [← ec]; exact cst_ok
  have xn : (1 : Int64) + (Int32.ofNat (xbt x 10 31) - Int32.ofNat (xbt x 10 31) / 9 * 9).toInt64 = Int64.ofInt n := by
    rw [n_rem (by omega) (by decide), n_i64 (by show xbt x 10 31 % 9 < 2147483648; omega), l_1, l_nat, l_add, ← en]
    rfl
  have b4 := n_bnd (n := a) (a := 124788933419) (by show a < 12; omega) (by omega)
  have b6 := n_bnd (n := w) (a := 124788933419) (by show w < 12; omega) (by omega)
  have b8 := n_bnd (n := u) (a := 124788933419) (by show u < 12; omega) (by omega)
  have t4 : (Int32.ofNat a).toNatClampNeg = a := tn_of (by omega)
  have t6 : (Int32.ofNat w).toNatClampNeg = w := tn_of (by omega)
  have t8 : (Int32.ofNat u).toNatClampNeg = u := tn_of (by omega)
  have ci : (Int32.ofNat c).toInt64 = Int64.ofInt c := by rw [n_i64 (by omega), l_nat]
  rw [ew] at hw i6
  rw [eu] at hu i8
  rw [ea] at i4
  rw [ec] at hc
  rw [en] at hn
  obtain ⟨W, eW⟩ : ∃ W, v w = W := ⟨_, rfl⟩
  obtain ⟨U, eU⟩ : ∃ U, v u = U := ⟨_, rfl⟩
  have r6 : am_g (HK g c0 s0 N v P) 124788933419 w = .long (Int64.ofInt W) := by rw [HK_v (by omega), eW]
  have r8 : am_g (HK g c0 s0 N v P) 124788933419 u = .long (Int64.ofInt U) := by rw [HK_v (by omega), eU]
  rw [eW] at hw
  rw [eU] at hu
  have hs : stOf x = St.mul a w u := by unfold stOf; rw [hk, ea, ew, eu]; rfl
  obtain ⟨R, eR⟩ : ∃ R : Int, W * U = R := ⟨_, rfl⟩

  have hR : -4000000000 ≤ R ∧ R ≤ 4000000000 := by
    have m1 : W.natAbs ≤ 32768 := by omega
    have m2 : U.natAbs ≤ 32768 := by omega
    have m3 : (W * U).natAbs ≤ 32768 * 32768 := by rw [Int.natAbs_mul]; exact Nat.mul_le_mul m1 m2
    rw [eR] at m3
    omega
  have k1 : (lg_cmp (Int64.ofInt R) (-32768) < 0) = (R < -32768) := by rw [l_m]; exact l_lt (by omega) (by omega) (by decide) (by decide)
  have k2 : (lg_cmp (Int64.ofInt R) 32767 ≤ 0) = (R ≤ 32767) := by rw [l_x]; exact l_le (by omega) (by omega) (by decide) (by decide)
  have hW : am_p (HK g c0 s0 N v P) 124788933419 a (.long (Int64.ofInt R)) = HK g c0 s0 N (up v a R) P := HK_w (by omega)
  have fin : actF (stOf x) v = chk v a R := by
    rw [hs]
    show chk v a _ = _
    rw [eW, eU, eR]
  by_cases q1 : R < -32768
  · have k1' := k1.trans (eq_true q1)
    have F : chk v a R = (3, v) := if_neg (by omega)
    rw [fin, F]
    rw [e13 rfl]
    simp (disch := (refine id ?_; first | with_reducible assumption | exact Nat.ne_of_beq_eq_false rfl | with_unfolding_all exact rfl | with_unfolding_all exact Nat.le_of_ble_eq_true rfl | (simp only [am_cat_nil, am_cat_int, am_cat_ref, am_cat_null, am_cat_long, Nat.reduceAdd, Nat.reduceLeDiff]; done) | omega | exact i_bnd2 (by simp only [am_n, Nat.reduceDiv, Nat.reduceMod, Nat.reduceMul, Nat.reduceAdd]; omega) | decide | fail)) only [z13_0, z13_1, z13_3, z13_4, z13_5, z13_5N, z13_6, z13_7, z13_9, z13_10, z13_11, z13_12, z13_13, z13_14, z13_14N, z13_15, z13_16, z13_18, z13_19, z13_20, z13_21, z13_22, z13_24, z13_25, z13_26, z13_28, z13_29, z13_31, z13_32, z13_34, z13_35, z13_36, z13_37, z13_39, z13_40, z13_41, z13_44, z13_44N, z13_45, z13_46, z13_47, z13_50, z13_51, z13_54, z13_57, z13_58, z13_59, z13_60, z13_61, z13_63, z13_64, z13_65, z13_66, z13_67, z13_69, z13_72, z13_73, z13_74, z13_75, z13_78, z13_79, z13_82, z13_83, z13_86, z13_87, z13_88, z13_89, z13_92, z13_93, z13_95, z13_96, z13_99, z13_100, z13_101, z13_104, z13_105, z13_106, z13_109, z13_110, z13_111, z13_114, z13_115, z13_116, z13_119, z13_120, z13_122, z13_123, z13_126, z13_127, z13_128, z13_131, z13_132, z13_134, z13_137, z13_140, z13_141, z13_142, z13_145, z13_146, z13_148, z13_149, z13_151, z13_154, z13_155, z13_156, z13_159, z13_160, z13_162, z13_165, z13_165N, z13_166, z13_167, z13_168, z13_169, z13_170, z13_171, z13_174, z13_175, z13_178, z13_179, z13_181, z13_183, z13_186, z13_187, z13_190, z13_192, z13_195, z13_196, z13_199, z13_200, z13_201, z13_201N, z13_202, z13_203, z13_204, z13_205, z13_206, z13_207, z13_209, z13_210, z13_211, x4, x6, x8, xc, xn, b4, b6, b8, t4, t6, t8, ci, r6, r8, xbt_10, i_m4, i_m6, i_m8, i_m10, i_eqll, i_lell, i_ltll, Nat.reduceEqDiff, Nat.reduceLeDiff, Nat.reduceLT, k1', hx, l_mul, eR, ↓reduceIte, i_10, i_00, am_then_some, am_tl1, am_tl0, i_addl, ad2, Nat.reduceAdd, Int32.reduceToNatClampNeg, List.nil_append]
    rfl
  · have k1' := k1.trans (eq_false q1)
    by_cases q2 : R ≤ 32767
    · have k2' := k2.trans (eq_true q2)
      have F : chk v a R = (0, up v a R) := if_pos (by omega)
      rw [fin, F]
      rw [e13 rfl]
      simp (disch := (refine id ?_; first | with_reducible assumption | exact Nat.ne_of_beq_eq_false rfl | with_unfolding_all exact rfl | with_unfolding_all exact Nat.le_of_ble_eq_true rfl | (simp only [am_cat_nil, am_cat_int, am_cat_ref, am_cat_null, am_cat_long, Nat.reduceAdd, Nat.reduceLeDiff]; done) | omega | exact i_bnd2 (by simp only [am_n, Nat.reduceDiv, Nat.reduceMod, Nat.reduceMul, Nat.reduceAdd]; omega) | decide | fail)) only [z13_0, z13_1, z13_3, z13_4, z13_5, z13_5N, z13_6, z13_7, z13_9, z13_10, z13_11, z13_12, z13_13, z13_14, z13_14N, z13_15, z13_16, z13_18, z13_19, z13_20, z13_21, z13_22, z13_24, z13_25, z13_26, z13_28, z13_29, z13_31, z13_32, z13_34, z13_35, z13_36, z13_37, z13_39, z13_40, z13_41, z13_44, z13_44N, z13_45, z13_46, z13_47, z13_50, z13_51, z13_54, z13_57, z13_58, z13_59, z13_60, z13_61, z13_63, z13_64, z13_65, z13_66, z13_67, z13_69, z13_72, z13_73, z13_74, z13_75, z13_78, z13_79, z13_82, z13_83, z13_86, z13_87, z13_88, z13_89, z13_92, z13_93, z13_95, z13_96, z13_99, z13_100, z13_101, z13_104, z13_105, z13_106, z13_109, z13_110, z13_111, z13_114, z13_115, z13_116, z13_119, z13_120, z13_122, z13_123, z13_126, z13_127, z13_128, z13_131, z13_132, z13_134, z13_137, z13_140, z13_141, z13_142, z13_145, z13_146, z13_148, z13_149, z13_151, z13_154, z13_155, z13_156, z13_159, z13_160, z13_162, z13_165, z13_165N, z13_166, z13_167, z13_168, z13_169, z13_170, z13_171, z13_174, z13_175, z13_178, z13_179, z13_181, z13_183, z13_186, z13_187, z13_190, z13_192, z13_195, z13_196, z13_199, z13_200, z13_201, z13_201N, z13_202, z13_203, z13_204, z13_205, z13_206, z13_207, z13_209, z13_210, z13_211, x4, x6, x8, xc, xn, b4, b6, b8, t4, t6, t8, ci, r6, r8, xbt_10, i_m4, i_m6, i_m8, i_m10, i_eqll, i_lell, i_ltll, Nat.reduceEqDiff, Nat.reduceLeDiff, Nat.reduceLT, k1', k2', hW, hx, l_mul, eR, ↓reduceIte, i_10, i_00, am_then_some, am_tl1, am_tl0, i_addl, ad2, Nat.reduceAdd, Int32.reduceToNatClampNeg, List.nil_append]
      rfl
    · have k2' := k2.trans (eq_false q2)
      have F : chk v a R = (3, v) := if_neg (by omega)
      rw [fin, F]
      rw [e13 rfl]
      simp (disch := (refine id ?_; first | with_reducible assumption | exact Nat.ne_of_beq_eq_false rfl | with_unfolding_all exact rfl | with_unfolding_all exact Nat.le_of_ble_eq_true rfl | (simp only [am_cat_nil, am_cat_int, am_cat_ref, am_cat_null, am_cat_long, Nat.reduceAdd, Nat.reduceLeDiff]; done) | omega | exact i_bnd2 (by simp only [am_n, Nat.reduceDiv, Nat.reduceMod, Nat.reduceMul, Nat.reduceAdd]; omega) | decide | fail)) only [z13_0, z13_1, z13_3, z13_4, z13_5, z13_5N, z13_6, z13_7, z13_9, z13_10, z13_11, z13_12, z13_13, z13_14, z13_14N, z13_15, z13_16, z13_18, z13_19, z13_20, z13_21, z13_22, z13_24, z13_25, z13_26, z13_28, z13_29, z13_31, z13_32, z13_34, z13_35, z13_36, z13_37, z13_39, z13_40, z13_41, z13_44, z13_44N, z13_45, z13_46, z13_47, z13_50, z13_51, z13_54, z13_57, z13_58, z13_59, z13_60, z13_61, z13_63, z13_64, z13_65, z13_66, z13_67, z13_69, z13_72, z13_73, z13_74, z13_75, z13_78, z13_79, z13_82, z13_83, z13_86, z13_87, z13_88, z13_89, z13_92, z13_93, z13_95, z13_96, z13_99, z13_100, z13_101, z13_104, z13_105, z13_106, z13_109, z13_110, z13_111, z13_114, z13_115, z13_116, z13_119, z13_120, z13_122, z13_123, z13_126, z13_127, z13_128, z13_131, z13_132, z13_134, z13_137, z13_140, z13_141, z13_142, z13_145, z13_146, z13_148, z13_149, z13_151, z13_154, z13_155, z13_156, z13_159, z13_160, z13_162, z13_165, z13_165N, z13_166, z13_167, z13_168, z13_169, z13_170, z13_171, z13_174, z13_175, z13_178, z13_179, z13_181, z13_183, z13_186, z13_187, z13_190, z13_192, z13_195, z13_196, z13_199, z13_200, z13_201, z13_201N, z13_202, z13_203, z13_204, z13_205, z13_206, z13_207, z13_209, z13_210, z13_211, x4, x6, x8, xc, xn, b4, b6, b8, t4, t6, t8, ci, r6, r8, xbt_10, i_m4, i_m6, i_m8, i_m10, i_eqll, i_lell, i_ltll, Nat.reduceEqDiff, Nat.reduceLeDiff, Nat.reduceLT, k1', k2', hx, l_mul, eR, ↓reduceIte, i_10, i_00, am_then_some, am_tl1, am_tl0, i_addl, ad2, Nat.reduceAdd, Int32.reduceToNatClampNeg, List.nil_append]
      rfl
theorem act_3 {x : Int32} (hk : xbt x 0 7 = 3) (hv : VRG v) : am_M (d + 3) 13 [.ref 124788933419, .int x] (HK g c0 s0 N v P) = some (some (.int (Int32.ofNat (actF (stOf x) v).1)), HK g c0 s0 N (actF (stOf x) v).2 P) := by
  have hx : x &&& 7 = 3 := xbt_7.trans (by rw [hk]; rfl)
  have hw : -32768 ≤ v (xbt x 6 3) ∧ v (xbt x 6 3) ≤ 32767 := hv _ (by have := n3 (x := x) (s := 6); omega)
  have hu : -32768 ≤ v (xbt x 8 3) ∧ v (xbt x 8 3) ≤ 32767 := hv _ (by have := n3 (x := x) (s := 8); omega)
  have i4 := n3 (x := x) (s := 4)
  have i6 := n3 (x := x) (s := 6)
  have i8 := n3 (x := x) (s := 8)
  have l10 := xbt_le (x := x) (s := 10) (m := 31)
  have hc := cst_lt (x := x)
  have hn := nn_lt (x := x)
  obtain ⟨a, ea⟩ : ∃ a, xbt x 4 3 = a := ⟨_, rfl⟩
  obtain ⟨w, ew⟩ : ∃ w, xbt x 6 3 = w := ⟨_, rfl⟩
  obtain ⟨u, eu⟩ : ∃ u, xbt x 8 3 = u := ⟨_, rfl⟩
  obtain ⟨c, ec⟩ : ∃ c, cst x = c := ⟨_, rfl⟩
  obtain ⟨n, en⟩ : ∃ n, nn x = n := ⟨_, rfl⟩
  have x4 : x >>> 4 &&& 3 = Int32.ofNat a := by rw [← ea]; exact xbt_s (by decide) (by decide)
  have x6 : x >>> 6 &&& 3 = Int32.ofNat w := by rw [← ew]; exact xbt_s (by decide) (by decide)
  have x8 : x >>> 8 &&& 3 = Int32.ofNat u := by rw [← eu]; exact xbt_s (by decide) (by decide)
  have xc : ∀ (d : Nat) (h : am_H), am_M (d + 1) 9 [.int x] h = some (some (.int (Int32.ofNat c)), h) := fun d h => by rw [← ec]; exact cst_ok
  have xn : (1 : Int64) + (Int32.ofNat (xbt x 10 31) - Int32.ofNat (xbt x 10 31) / 9 * 9).toInt64 = Int64.ofInt n := by
    rw [n_rem (by omega) (by decide), n_i64 (by show xbt x 10 31 % 9 < 2147483648; omega), l_1, l_nat, l_add, ← en]
    rfl
  have b4 := n_bnd (n := a) (a := 124788933419) (by show a < 12; omega) (by omega)
  have b6 := n_bnd (n := w) (a := 124788933419) (by show w < 12; omega) (by omega)
  have b8 := n_bnd (n := u) (a := 124788933419) (by show u < 12; omega) (by omega)
  have t4 : (Int32.ofNat a).toNatClampNeg = a := tn_of (by omega)
  have t6 : (Int32.ofNat w).toNatClampNeg = w := tn_of (by omega)
  have t8 : (Int32.ofNat u).toNatClampNeg = u := tn_of (by omega)
  have ci : (Int32.ofNat c).toInt64 = Int64.ofInt c := by rw [n_i64 (by omega), l_nat]
  rw [ew] at hw i6
  rw [eu] at hu i8
  rw [ea] at i4
  rw [ec] at hc
  rw [en] at hn
  obtain ⟨W, eW⟩ : ∃ W, v w = W := ⟨_, rfl⟩
  obtain ⟨U, eU⟩ : ∃ U, v u = U := ⟨_, rfl⟩
  have r6 : am_g (HK g c0 s0 N v P) 124788933419 w = .long (Int64.ofInt W) := by rw [HK_v (by omega), eW]
  have r8 : am_g (HK g c0 s0 N v P) 124788933419 u = .long (Int64.ofInt U) := by rw [HK_v (by omega), eU]
  rw [eW] at hw
  rw [eU] at hu
  have hs : stOf x = St.div a w n := by unfold stOf; rw [hk, ea, ew, en]; rfl
  obtain ⟨R, eR⟩ : ∃ R : Int, W / (n : Int) = R := ⟨_, rfl⟩
  have DN := fun (d : Nat) (h : am_H) => dn_ok (h := h) (d := d) (a := W) (b := n) (by omega) (by omega) (by omega) (by omega)
  rw [eR] at DN
  have hR : -4000000000 ≤ R ∧ R ≤ 4000000000 := by
    have := dv_rng (z := W) (k := n) hw.1 hw.2 hn.1
    omega
  have k1 : (lg_cmp (Int64.ofInt R) (-32768) < 0) = (R < -32768) := by rw [l_m]; exact l_lt (by omega) (by omega) (by decide) (by decide)
  have k2 : (lg_cmp (Int64.ofInt R) 32767 ≤ 0) = (R ≤ 32767) := by rw [l_x]; exact l_le (by omega) (by omega) (by decide) (by decide)
  have hW : am_p (HK g c0 s0 N v P) 124788933419 a (.long (Int64.ofInt R)) = HK g c0 s0 N (up v a R) P := HK_w (by omega)
  have fin : actF (stOf x) v = chk v a R := by
    rw [hs]
    show chk v a _ = _
    rw [eW, eR]
  by_cases q1 : R < -32768
  · have k1' := k1.trans (eq_true q1)
    have F : chk v a R = (3, v) := if_neg (by omega)
    rw [fin, F]
    rw [e13 rfl]
    simp (disch := (refine id ?_; first | with_reducible assumption | exact Nat.ne_of_beq_eq_false rfl | with_unfolding_all exact rfl | with_unfolding_all exact Nat.le_of_ble_eq_true rfl | (simp only [am_cat_nil, am_cat_int, am_cat_ref, am_cat_null, am_cat_long, Nat.reduceAdd, Nat.reduceLeDiff]; done) | omega | exact i_bnd2 (by simp only [am_n, Nat.reduceDiv, Nat.reduceMod, Nat.reduceMul, Nat.reduceAdd]; omega) | decide | fail)) only [z13_0, z13_1, z13_3, z13_4, z13_5, z13_5N, z13_6, z13_7, z13_9, z13_10, z13_11, z13_12, z13_13, z13_14, z13_14N, z13_15, z13_16, z13_18, z13_19, z13_20, z13_21, z13_22, z13_24, z13_25, z13_26, z13_28, z13_29, z13_31, z13_32, z13_34, z13_35, z13_36, z13_37, z13_39, z13_40, z13_41, z13_44, z13_44N, z13_45, z13_46, z13_47, z13_50, z13_51, z13_54, z13_57, z13_58, z13_59, z13_60, z13_61, z13_63, z13_64, z13_65, z13_66, z13_67, z13_69, z13_72, z13_73, z13_74, z13_75, z13_78, z13_79, z13_82, z13_83, z13_86, z13_87, z13_88, z13_89, z13_92, z13_93, z13_95, z13_96, z13_99, z13_100, z13_101, z13_104, z13_105, z13_106, z13_109, z13_110, z13_111, z13_114, z13_115, z13_116, z13_119, z13_120, z13_122, z13_123, z13_126, z13_127, z13_128, z13_131, z13_132, z13_134, z13_137, z13_140, z13_141, z13_142, z13_145, z13_146, z13_148, z13_149, z13_151, z13_154, z13_155, z13_156, z13_159, z13_160, z13_162, z13_165, z13_165N, z13_166, z13_167, z13_168, z13_169, z13_170, z13_171, z13_174, z13_175, z13_178, z13_179, z13_181, z13_183, z13_186, z13_187, z13_190, z13_192, z13_195, z13_196, z13_199, z13_200, z13_201, z13_201N, z13_202, z13_203, z13_204, z13_205, z13_206, z13_207, z13_209, z13_210, z13_211, x4, x6, x8, xc, xn, b4, b6, b8, t4, t6, t8, ci, r6, r8, xbt_10, i_m4, i_m6, i_m8, i_m10, i_eqll, i_lell, i_ltll, Nat.reduceEqDiff, Nat.reduceLeDiff, Nat.reduceLT, k1', hx, DN, eR, ↓reduceIte, i_10, i_00, am_then_some, am_tl1, am_tl0, i_addl, ad2, Nat.reduceAdd, Int32.reduceToNatClampNeg, List.nil_append]
    rfl
  · have k1' := k1.trans (eq_false q1)
    by_cases q2 : R ≤ 32767
    · have k2' := k2.trans (eq_true q2)
      have F : chk v a R = (0, up v a R) := if_pos (by omega)
      rw [fin, F]
      rw [e13 rfl]
      simp (disch := (refine id ?_; first | with_reducible assumption | exact Nat.ne_of_beq_eq_false rfl | with_unfolding_all exact rfl | with_unfolding_all exact Nat.le_of_ble_eq_true rfl | (simp only [am_cat_nil, am_cat_int, am_cat_ref, am_cat_null, am_cat_long, Nat.reduceAdd, Nat.reduceLeDiff]; done) | omega | exact i_bnd2 (by simp only [am_n, Nat.reduceDiv, Nat.reduceMod, Nat.reduceMul, Nat.reduceAdd]; omega) | decide | fail)) only [z13_0, z13_1, z13_3, z13_4, z13_5, z13_5N, z13_6, z13_7, z13_9, z13_10, z13_11, z13_12, z13_13, z13_14, z13_14N, z13_15, z13_16, z13_18, z13_19, z13_20, z13_21, z13_22, z13_24, z13_25, z13_26, z13_28, z13_29, z13_31, z13_32, z13_34, z13_35, z13_36, z13_37, z13_39, z13_40, z13_41, z13_44, z13_44N, z13_45, z13_46, z13_47, z13_50, z13_51, z13_54, z13_57, z13_58, z13_59, z13_60, z13_61, z13_63, z13_64, z13_65, z13_66, z13_67, z13_69, z13_72, z13_73, z13_74, z13_75, z13_78, z13_79, z13_82, z13_83, z13_86, z13_87, z13_88, z13_89, z13_92, z13_93, z13_95, z13_96, z13_99, z13_100, z13_101, z13_104, z13_105, z13_106, z13_109, z13_110, z13_111, z13_114, z13_115, z13_116, z13_119, z13_120, z13_122, z13_123, z13_126, z13_127, z13_128, z13_131, z13_132, z13_134, z13_137, z13_140, z13_141, z13_142, z13_145, z13_146, z13_148, z13_149, z13_151, z13_154, z13_155, z13_156, z13_159, z13_160, z13_162, z13_165, z13_165N, z13_166, z13_167, z13_168, z13_169, z13_170, z13_171, z13_174, z13_175, z13_178, z13_179, z13_181, z13_183, z13_186, z13_187, z13_190, z13_192, z13_195, z13_196, z13_199, z13_200, z13_201, z13_201N, z13_202, z13_203, z13_204, z13_205, z13_206, z13_207, z13_209, z13_210, z13_211, x4, x6, x8, xc, xn, b4, b6, b8, t4, t6, t8, ci, r6, r8, xbt_10, i_m4, i_m6, i_m8, i_m10, i_eqll, i_lell, i_ltll, Nat.reduceEqDiff, Nat.reduceLeDiff, Nat.reduceLT, k1', k2', hW, hx, DN, eR, ↓reduceIte, i_10, i_00, am_then_some, am_tl1, am_tl0, i_addl, ad2, Nat.reduceAdd, Int32.reduceToNatClampNeg, List.nil_append]
      rfl
    · have k2' := k2.trans (eq_false q2)
      have F : chk v a R = (3, v) := if_neg (by omega)
      rw [fin, F]
      rw [e13 rfl]
      simp (disch := (refine id ?_; first | with_reducible assumption | exact Nat.ne_of_beq_eq_false rfl | with_unfolding_all exact rfl | with_unfolding_all exact Nat.le_of_ble_eq_true rfl | (simp only [am_cat_nil, am_cat_int, am_cat_ref, am_cat_null, am_cat_long, Nat.reduceAdd, Nat.reduceLeDiff]; done) | omega | exact i_bnd2 (by simp only [am_n, Nat.reduceDiv, Nat.reduceMod, Nat.reduceMul, Nat.reduceAdd]; omega) | decide | fail)) only [z13_0, z13_1, z13_3, z13_4, z13_5, z13_5N, z13_6, z13_7, z13_9, z13_10, z13_11, z13_12, z13_13, z13_14, z13_14N, z13_15, z13_16, z13_18, z13_19, z13_20, z13_21, z13_22, z13_24, z13_25, z13_26, z13_28, z13_29, z13_31, z13_32, z13_34, z13_35, z13_36, z13_37, z13_39, z13_40, z13_41, z13_44, z13_44N, z13_45, z13_46, z13_47, z13_50, z13_51, z13_54, z13_57, z13_58, z13_59, z13_60, z13_61, z13_63, z13_64, z13_65, z13_66, z13_67, z13_69, z13_72, z13_73, z13_74, z13_75, z13_78, z13_79, z13_82, z13_83, z13_86, z13_87, z13_88, z13_89, z13_92, z13_93, z13_95, z13_96, z13_99, z13_100, z13_101, z13_104, z13_105, z13_106, z13_109, z13_110, z13_111, z13_114, z13_115, z13_116, z13_119, z13_120, z13_122, z13_123, z13_126, z13_127, z13_128, z13_131, z13_132, z13_134, z13_137, z13_140, z13_141, z13_142, z13_145, z13_146, z13_148, z13_149, z13_151, z13_154, z13_155, z13_156, z13_159, z13_160, z13_162, z13_165, z13_165N, z13_166, z13_167, z13_168, z13_169, z13_170, z13_171, z13_174, z13_175, z13_178, z13_179, z13_181, z13_183, z13_186, z13_187, z13_190, z13_192, z13_195, z13_196, z13_199, z13_200, z13_201, z13_201N, z13_202, z13_203, z13_204, z13_205, z13_206, z13_207, z13_209, z13_210, z13_211, x4, x6, x8, xc, xn, b4, b6, b8, t4, t6, t8, ci, r6, r8, xbt_10, i_m4, i_m6, i_m8, i_m10, i_eqll, i_lell, i_ltll, Nat.reduceEqDiff, Nat.reduceLeDiff, Nat.reduceLT, k1', k2', hx, DN, eR, ↓reduceIte, i_10, i_00, am_then_some, am_tl1, am_tl0, i_addl, ad2, Nat.reduceAdd, Int32.reduceToNatClampNeg, List.nil_append]
      rfl
theorem act_4 {x : Int32} (hk : xbt x 0 7 = 4) (hv : VRG v) : am_M (d + 3) 13 [.ref 124788933419, .int x] (HK g c0 s0 N v P) = some (some (.int (Int32.ofNat (actF (stOf x) v).1)), HK g c0 s0 N (actF (stOf x) v).2 P) := by
  have hx : x &&& 7 = 4 := xbt_7.trans (by rw [hk]; rfl)
  have hw : -32768 ≤ v (xbt x 6 3) ∧ v (xbt x 6 3) ≤ 32767 := hv _ (by have := n3 (x := x) (s := 6); omega)
  have hu : -32768 ≤ v (xbt x 8 3) ∧ v (xbt x 8 3) ≤ 32767 := hv _ (by have := n3 (x := x) (s := 8); omega)
  have i4 := n3 (x := x) (s := 4)
  have i6 := n3 (x := x) (s := 6)
  have i8 := n3 (x := x) (s := 8)
  have l10 := xbt_le (x := x) (s := 10) (m := 31)
  have hc := cst_lt (x := x)
  have hn := nn_lt (x := x)
  obtain ⟨a, ea⟩ : ∃ a, xbt x 4 3 = a := ⟨_, rfl⟩
  obtain ⟨w, ew⟩ : ∃ w, xbt x 6 3 = w := ⟨_, rfl⟩
  obtain ⟨u, eu⟩ : ∃ u, xbt x 8 3 = u := ⟨_, rfl⟩
  obtain ⟨c, ec⟩ : ∃ c, cst x = c := ⟨_, rfl⟩
  obtain ⟨n, en⟩ : ∃ n, nn x = n := ⟨_, rfl⟩
  have x4 : x >>> 4 &&& 3 = Int32.ofNat a := by rw [← ea]; exact xbt_s (by decide) (by decide)
  have x6 : x >>> 6 &&& 3 = Int32.ofNat w := by rw [← ew]; exact xbt_s (by decide) (by decide)
  have x8 : x >>> 8 &&& 3 = Int32.ofNat u := by rw [← eu]; exact xbt_s (by decide) (by decide)
  have xc : ∀ (d : Nat) (h : am_H), am_M (d + 1) 9 [.int x] h = some (some (.int (Int32.ofNat c)), h) := fun d h => by rw [← ec]; exact cst_ok
  have xn : (1 : Int64) + (Int32.ofNat (xbt x 10 31) - Int32.ofNat (xbt x 10 31) / 9 * 9).toInt64 = Int64.ofInt n := by
    rw [n_rem (by omega) (by decide), n_i64 (by show xbt x 10 31 % 9 < 2147483648; omega), l_1, l_nat, l_add, ← en]
    rfl
  have b4 := n_bnd (n := a) (a := 124788933419) (by show a < 12; omega) (by omega)
  have b6 := n_bnd (n := w) (a := 124788933419) (by show w < 12; omega) (by omega)
  have b8 := n_bnd (n := u) (a := 124788933419) (by show u < 12; omega) (by omega)
  have t4 : (Int32.ofNat a).toNatClampNeg = a := tn_of (by omega)
  have t6 : (Int32.ofNat w).toNatClampNeg = w := tn_of (by omega)
  have t8 : (Int32.ofNat u).toNatClampNeg = u := tn_of (by omega)
  have ci : (Int32.ofNat c).toInt64 = Int64.ofInt c := by rw [n_i64 (by omega), l_nat]
  rw [ew] at hw i6
  rw [eu] at hu i8
  rw [ea] at i4
  rw [ec] at hc
  rw [en] at hn
  obtain ⟨W, eW⟩ : ∃ W, v w = W := ⟨_, rfl⟩
  obtain ⟨U, eU⟩ : ∃ U, v u = U := ⟨_, rfl⟩
  have r6 : am_g (HK g c0 s0 N v P) 124788933419 w = .long (Int64.ofInt W) := by rw [HK_v (by omega), eW]
  have r8 : am_g (HK g c0 s0 N v P) 124788933419 u = .long (Int64.ofInt U) := by rw [HK_v (by omega), eU]
  rw [eW] at hw
  rw [eU] at hu
  have hs : stOf x = St.mod a w n := by unfold stOf; rw [hk, ea, ew, en]; rfl
  obtain ⟨R, eR⟩ : ∃ R : Int, W % (n : Int) = R := ⟨_, rfl⟩
  have DN := fun (d : Nat) (h : am_H) => dn_ok (h := h) (d := d) (a := W) (b := n) (by omega) (by omega) (by omega) (by omega)
  have ME : W - (n : Int) * (W / (n : Int)) = R := by
    have := Int.mul_ediv_add_emod W n
    omega
  have hR : -4000000000 ≤ R ∧ R ≤ 4000000000 := by
    have := md_rng (z := W) (k := n) hn.1 (by omega)
    omega
  have k1 : (lg_cmp (Int64.ofInt R) (-32768) < 0) = (R < -32768) := by rw [l_m]; exact l_lt (by omega) (by omega) (by decide) (by decide)
  have k2 : (lg_cmp (Int64.ofInt R) 32767 ≤ 0) = (R ≤ 32767) := by rw [l_x]; exact l_le (by omega) (by omega) (by decide) (by decide)
  have hW : am_p (HK g c0 s0 N v P) 124788933419 a (.long (Int64.ofInt R)) = HK g c0 s0 N (up v a R) P := HK_w (by omega)
  have fin : actF (stOf x) v = chk v a R := by
    rw [hs]
    show chk v a _ = _
    rw [eW, eR]
  by_cases q1 : R < -32768
  · have k1' := k1.trans (eq_true q1)
    have F : chk v a R = (3, v) := if_neg (by omega)
    rw [fin, F]
    rw [e13 rfl]
    simp (disch := (refine id ?_; first | with_reducible assumption | exact Nat.ne_of_beq_eq_false rfl | with_unfolding_all exact rfl | with_unfolding_all exact Nat.le_of_ble_eq_true rfl | (simp only [am_cat_nil, am_cat_int, am_cat_ref, am_cat_null, am_cat_long, Nat.reduceAdd, Nat.reduceLeDiff]; done) | omega | exact i_bnd2 (by simp only [am_n, Nat.reduceDiv, Nat.reduceMod, Nat.reduceMul, Nat.reduceAdd]; omega) | decide | fail)) only [z13_0, z13_1, z13_3, z13_4, z13_5, z13_5N, z13_6, z13_7, z13_9, z13_10, z13_11, z13_12, z13_13, z13_14, z13_14N, z13_15, z13_16, z13_18, z13_19, z13_20, z13_21, z13_22, z13_24, z13_25, z13_26, z13_28, z13_29, z13_31, z13_32, z13_34, z13_35, z13_36, z13_37, z13_39, z13_40, z13_41, z13_44, z13_44N, z13_45, z13_46, z13_47, z13_50, z13_51, z13_54, z13_57, z13_58, z13_59, z13_60, z13_61, z13_63, z13_64, z13_65, z13_66, z13_67, z13_69, z13_72, z13_73, z13_74, z13_75, z13_78, z13_79, z13_82, z13_83, z13_86, z13_87, z13_88, z13_89, z13_92, z13_93, z13_95, z13_96, z13_99, z13_100, z13_101, z13_104, z13_105, z13_106, z13_109, z13_110, z13_111, z13_114, z13_115, z13_116, z13_119, z13_120, z13_122, z13_123, z13_126, z13_127, z13_128, z13_131, z13_132, z13_134, z13_137, z13_140, z13_141, z13_142, z13_145, z13_146, z13_148, z13_149, z13_151, z13_154, z13_155, z13_156, z13_159, z13_160, z13_162, z13_165, z13_165N, z13_166, z13_167, z13_168, z13_169, z13_170, z13_171, z13_174, z13_175, z13_178, z13_179, z13_181, z13_183, z13_186, z13_187, z13_190, z13_192, z13_195, z13_196, z13_199, z13_200, z13_201, z13_201N, z13_202, z13_203, z13_204, z13_205, z13_206, z13_207, z13_209, z13_210, z13_211, x4, x6, x8, xc, xn, b4, b6, b8, t4, t6, t8, ci, r6, r8, xbt_10, i_m4, i_m6, i_m8, i_m10, i_eqll, i_lell, i_ltll, Nat.reduceEqDiff, Nat.reduceLeDiff, Nat.reduceLT, k1', hx, DN, l_mul, l_sub, ME, ↓reduceIte, i_10, i_00, am_then_some, am_tl1, am_tl0, i_addl, ad2, Nat.reduceAdd, Int32.reduceToNatClampNeg, List.nil_append]
    rfl
  · have k1' := k1.trans (eq_false q1)
    by_cases q2 : R ≤ 32767
    · have k2' := k2.trans (eq_true q2)
      have F : chk v a R = (0, up v a R) := if_pos (by omega)
      rw [fin, F]
      rw [e13 rfl]
      simp (disch := (refine id ?_; first | with_reducible assumption | exact Nat.ne_of_beq_eq_false rfl | with_unfolding_all exact rfl | with_unfolding_all exact Nat.le_of_ble_eq_true rfl | (simp only [am_cat_nil, am_cat_int, am_cat_ref, am_cat_null, am_cat_long, Nat.reduceAdd, Nat.reduceLeDiff]; done) | omega | exact i_bnd2 (by simp only [am_n, Nat.reduceDiv, Nat.reduceMod, Nat.reduceMul, Nat.reduceAdd]; omega) | decide | fail)) only [z13_0, z13_1, z13_3, z13_4, z13_5, z13_5N, z13_6, z13_7, z13_9, z13_10, z13_11, z13_12, z13_13, z13_14, z13_14N, z13_15, z13_16, z13_18, z13_19, z13_20, z13_21, z13_22, z13_24, z13_25, z13_26, z13_28, z13_29, z13_31, z13_32, z13_34, z13_35, z13_36, z13_37, z13_39, z13_40, z13_41, z13_44, z13_44N, z13_45, z13_46, z13_47, z13_50, z13_51, z13_54, z13_57, z13_58, z13_59, z13_60, z13_61, z13_63, z13_64, z13_65, z13_66, z13_67, z13_69, z13_72, z13_73, z13_74, z13_75, z13_78, z13_79, z13_82, z13_83, z13_86, z13_87, z13_88, z13_89, z13_92, z13_93, z13_95, z13_96, z13_99, z13_100, z13_101, z13_104, z13_105, z13_106, z13_109, z13_110, z13_111, z13_114, z13_115, z13_116, z13_119, z13_120, z13_122, z13_123, z13_126, z13_127, z13_128, z13_131, z13_132, z13_134, z13_137, z13_140, z13_141, z13_142, z13_145, z13_146, z13_148, z13_149, z13_151, z13_154, z13_155, z13_156, z13_159, z13_160, z13_162, z13_165, z13_165N, z13_166, z13_167, z13_168, z13_169, z13_170, z13_171, z13_174, z13_175, z13_178, z13_179, z13_181, z13_183, z13_186, z13_187, z13_190, z13_192, z13_195, z13_196, z13_199, z13_200, z13_201, z13_201N, z13_202, z13_203, z13_204, z13_205, z13_206, z13_207, z13_209, z13_210, z13_211, x4, x6, x8, xc, xn, b4, b6, b8, t4, t6, t8, ci, r6, r8, xbt_10, i_m4, i_m6, i_m8, i_m10, i_eqll, i_lell, i_ltll, Nat.reduceEqDiff, Nat.reduceLeDiff, Nat.reduceLT, k1', k2', hW, hx, DN, l_mul, l_sub, ME, ↓reduceIte, i_10, i_00, am_then_some, am_tl1, am_tl0, i_addl, ad2, Nat.reduceAdd, Int32.reduceToNatClampNeg, List.nil_append]
      rfl
    · have k2' := k2.trans (eq_false q2)
      have F : chk v a R = (3, v) := if_neg (by omega)
      rw [fin, F]
      rw [e13 rfl]
      simp (disch := (refine id ?_; first | with_reducible assumption | exact Nat.ne_of_beq_eq_false rfl | with_unfolding_all exact rfl | with_unfolding_all exact Nat.le_of_ble_eq_true rfl | (simp only [am_cat_nil, am_cat_int, am_cat_ref, am_cat_null, am_cat_long, Nat.reduceAdd, Nat.reduceLeDiff]; done) | omega | exact i_bnd2 (by simp only [am_n, Nat.reduceDiv, Nat.reduceMod, Nat.reduceMul, Nat.reduceAdd]; omega) | decide | fail)) only [z13_0, z13_1, z13_3, z13_4, z13_5, z13_5N, z13_6, z13_7, z13_9, z13_10, z13_11, z13_12, z13_13, z13_14, z13_14N, z13_15, z13_16, z13_18, z13_19, z13_20, z13_21, z13_22, z13_24, z13_25, z13_26, z13_28, z13_29, z13_31, z13_32, z13_34, z13_35, z13_36, z13_37, z13_39, z13_40, z13_41, z13_44, z13_44N, z13_45, z13_46, z13_47, z13_50, z13_51, z13_54, z13_57, z13_58, z13_59, z13_60, z13_61, z13_63, z13_64, z13_65, z13_66, z13_67, z13_69, z13_72, z13_73, z13_74, z13_75, z13_78, z13_79, z13_82, z13_83, z13_86, z13_87, z13_88, z13_89, z13_92, z13_93, z13_95, z13_96, z13_99, z13_100, z13_101, z13_104, z13_105, z13_106, z13_109, z13_110, z13_111, z13_114, z13_115, z13_116, z13_119, z13_120, z13_122, z13_123, z13_126, z13_127, z13_128, z13_131, z13_132, z13_134, z13_137, z13_140, z13_141, z13_142, z13_145, z13_146, z13_148, z13_149, z13_151, z13_154, z13_155, z13_156, z13_159, z13_160, z13_162, z13_165, z13_165N, z13_166, z13_167, z13_168, z13_169, z13_170, z13_171, z13_174, z13_175, z13_178, z13_179, z13_181, z13_183, z13_186, z13_187, z13_190, z13_192, z13_195, z13_196, z13_199, z13_200, z13_201, z13_201N, z13_202, z13_203, z13_204, z13_205, z13_206, z13_207, z13_209, z13_210, z13_211, x4, x6, x8, xc, xn, b4, b6, b8, t4, t6, t8, ci, r6, r8, xbt_10, i_m4, i_m6, i_m8, i_m10, i_eqll, i_lell, i_ltll, Nat.reduceEqDiff, Nat.reduceLeDiff, Nat.reduceLT, k1', k2', hx, DN, l_mul, l_sub, ME, ↓reduceIte, i_10, i_00, am_then_some, am_tl1, am_tl0, i_addl, ad2, Nat.reduceAdd, Int32.reduceToNatClampNeg, List.nil_append]
      rfl
theorem act_5 {x : Int32} (hk : xbt x 0 7 = 5) (hv : VRG v) : am_M (d + 3) 13 [.ref 124788933419, .int x] (HK g c0 s0 N v P) = some (some (.int (Int32.ofNat (actF (stOf x) v).1)), HK g c0 s0 N (actF (stOf x) v).2 P) := by
  have hx : x &&& 7 = 5 := xbt_7.trans (by rw [hk]; rfl)
  have hw : -32768 ≤ v (xbt x 6 3) ∧ v (xbt x 6 3) ≤ 32767 := hv _ (by have := n3 (x := x) (s := 6); omega)
  have hu : -32768 ≤ v (xbt x 8 3) ∧ v (xbt x 8 3) ≤ 32767 := hv _ (by have := n3 (x := x) (s := 8); omega)
  have i4 := n3 (x := x) (s := 4)
  have i6 := n3 (x := x) (s := 6)
  have i8 := n3 (x := x) (s := 8)
  have l10 := xbt_le (x := x) (s := 10) (m := 31)
  have hc := cst_lt (x := x)
  have hn := nn_lt (x := x)
  obtain ⟨a, ea⟩ : ∃ a, xbt x 4 3 = a := ⟨_, rfl⟩
  obtain ⟨w, ew⟩ : ∃ w, xbt x 6 3 = w := ⟨_, rfl⟩
  obtain ⟨u, eu⟩ : ∃ u, xbt x 8 3 = u := ⟨_, rfl⟩
  obtain ⟨c, ec⟩ : ∃ c, cst x = c := ⟨_, rfl⟩
  obtain ⟨n, en⟩ : ∃ n, nn x = n := ⟨_, rfl⟩
  have x4 : x >>> 4 &&& 3 = Int32.ofNat a := by rw [← ea]; exact xbt_s (by decide) (by decide)
  have x6 : x >>> 6 &&& 3 = Int32.ofNat w := by rw [← ew]; exact xbt_s (by decide) (by decide)
  have x8 : x >>> 8 &&& 3 = Int32.ofNat u := by rw [← eu]; exact xbt_s (by decide) (by decide)
  have xc : ∀ (d : Nat) (h : am_H), am_M (d + 1) 9 [.int x] h = some (some (.int (Int32.ofNat c)), h) := fun d h => by rw [← ec]; exact cst_ok
  have xn : (1 : Int64) + (Int32.ofNat (xbt x 10 31) - Int32.ofNat (xbt x 10 31) / 9 * 9).toInt64 = Int64.ofInt n := by
    rw [n_rem (by omega) (by decide), n_i64 (by show xbt x 10 31 % 9 < 2147483648; omega), l_1, l_nat, l_add, ← en]
    rfl
  have b4 := n_bnd (n := a) (a := 124788933419) (by show a < 12; omega) (by omega)
  have b6 := n_bnd (n := w) (a := 124788933419) (by show w < 12; omega) (by omega)
  have b8 := n_bnd (n := u) (a := 124788933419) (by show u < 12; omega) (by omega)
  have t4 : (Int32.ofNat a).toNatClampNeg = a := tn_of (by omega)
  have t6 : (Int32.ofNat w).toNatClampNeg = w := tn_of (by omega)
  have t8 : (Int32.ofNat u).toNatClampNeg = u := tn_of (by omega)
  have ci : (Int32.ofNat c).toInt64 = Int64.ofInt c := by rw [n_i64 (by omega), l_nat]
  rw [ew] at hw i6
  rw [eu] at hu i8
  rw [ea] at i4
  rw [ec] at hc
  rw [en] at hn
  obtain ⟨W, eW⟩ : ∃ W, v w = W := ⟨_, rfl⟩
  obtain ⟨U, eU⟩ : ∃ U, v u = U := ⟨_, rfl⟩
  have r6 : am_g (HK g c0 s0 N v P) 124788933419 w = .long (Int64.ofInt W) := by rw [HK_v (by omega), eW]
  have r8 : am_g (HK g c0 s0 N v P) 124788933419 u = .long (Int64.ofInt U) := by rw [HK_v (by omega), eU]
  rw [eW] at hw
  rw [eU] at hu
  have hs : stOf x = St.set w u := by unfold stOf; rw [hk, ew, eu]; rfl
  have DN := fun (d : Nat) (h : am_H) => dn_ok (h := h) (d := d) (a := W) (b := 4) (by omega) (by omega) (by omega) (by omega)
  have DN : ∀ (d : Nat) (h : am_H), am_M (d + 1) 14 [.long (Int64.ofInt W), .long 4] h = some (some (.long (Int64.ofInt (W / 4))), h) := DN
  obtain ⟨r, er⟩ : ∃ r : Nat, r = (W % 4).toNat := ⟨_, rfl⟩
  have hr : (r : Int) = W % 4 := by omega
  have m1 : (4 : Int64) * Int64.ofInt (W / 4) = Int64.ofInt (4 * (W / 4)) := by rw [l_4]; exact l_mul
  have m2 : Int64.ofInt W - Int64.ofInt (4 * (W / 4)) = Int64.ofInt r := by rw [l_sub]; congr 1; omega
  have m3 : (Int64.ofInt r).toInt32 = Int32.ofNat r := l_32 (by omega)
  have m4 : (4 : Int32) + Int32.ofNat r = Int32.ofNat (4 + r) := n_add (x := 4)
  have t5 : (Int32.ofNat (4 + r)).toNatClampNeg = 4 + r := tn_of (by omega)
  have b5 := n_bnd (n := 4 + r) (a := 124788933419) (by show 4 + r < 12; omega) (by omega)
  have hW : am_p (HK g c0 s0 N v P) 124788933419 (4 + r) (.long (Int64.ofInt U)) = HK g c0 s0 N (up v (4 + r) U) P := HK_w (by omega)
  have fin : actF (stOf x) v = (0, up v (4 + r) U) := by
    rw [hs]
    show (0, up v (4 + (v w % 4).toNat) (v u)) = _
    rw [eW, eU, er]
  rw [fin, e13 rfl]
  simp (disch := (refine id ?_; first | with_reducible assumption | exact Nat.ne_of_beq_eq_false rfl | with_unfolding_all exact rfl | with_unfolding_all exact Nat.le_of_ble_eq_true rfl | (simp only [am_cat_nil, am_cat_int, am_cat_ref, am_cat_null, am_cat_long, Nat.reduceAdd, Nat.reduceLeDiff]; done) | omega | exact i_bnd2 (by simp only [am_n, Nat.reduceDiv, Nat.reduceMod, Nat.reduceMul, Nat.reduceAdd]; omega) | decide | fail)) only [z13_0, z13_1, z13_3, z13_4, z13_5, z13_5N, z13_6, z13_7, z13_9, z13_10, z13_11, z13_12, z13_13, z13_14, z13_14N, z13_15, z13_16, z13_18, z13_19, z13_20, z13_21, z13_22, z13_24, z13_25, z13_26, z13_28, z13_29, z13_31, z13_32, z13_34, z13_35, z13_36, z13_37, z13_39, z13_40, z13_41, z13_44, z13_44N, z13_45, z13_46, z13_47, z13_50, z13_51, z13_54, z13_57, z13_58, z13_59, z13_60, z13_61, z13_63, z13_64, z13_65, z13_66, z13_67, z13_69, z13_72, z13_73, z13_74, z13_75, z13_78, z13_79, z13_82, z13_83, z13_86, z13_87, z13_88, z13_89, z13_92, z13_93, z13_95, z13_96, z13_99, z13_100, z13_101, z13_104, z13_105, z13_106, z13_109, z13_110, z13_111, z13_114, z13_115, z13_116, z13_119, z13_120, z13_122, z13_123, z13_126, z13_127, z13_128, z13_131, z13_132, z13_134, z13_137, z13_140, z13_141, z13_142, z13_145, z13_146, z13_148, z13_149, z13_151, z13_154, z13_155, z13_156, z13_159, z13_160, z13_162, z13_165, z13_165N, z13_166, z13_167, z13_168, z13_169, z13_170, z13_171, z13_174, z13_175, z13_178, z13_179, z13_181, z13_183, z13_186, z13_187, z13_190, z13_192, z13_195, z13_196, z13_199, z13_200, z13_201, z13_201N, z13_202, z13_203, z13_204, z13_205, z13_206, z13_207, z13_209, z13_210, z13_211, x4, x6, x8, xc, xn, b4, b6, b8, t4, t6, t8, ci, r6, r8, xbt_10, i_m4, i_m6, i_m8, i_m10, i_eqll, i_lell, i_ltll, Nat.reduceEqDiff, Nat.reduceLeDiff, Nat.reduceLT, hx, DN, m1, m2, m3, m4, t5, b5, hW, ↓reduceIte, i_10, i_00, am_then_some, am_tl1, am_tl0, i_addl, ad2, Nat.reduceAdd, Int32.reduceToNatClampNeg, List.nil_append]
  rfl
theorem act_6 {x : Int32} (hk : xbt x 0 7 = 6) (hv : VRG v) : am_M (d + 3) 13 [.ref 124788933419, .int x] (HK g c0 s0 N v P) = some (some (.int (Int32.ofNat (actF (stOf x) v).1)), HK g c0 s0 N (actF (stOf x) v).2 P) := by
  have hx : x &&& 7 = 6 := xbt_7.trans (by rw [hk]; rfl)
  have hw : -32768 ≤ v (xbt x 6 3) ∧ v (xbt x 6 3) ≤ 32767 := hv _ (by have := n3 (x := x) (s := 6); omega)
  have hu : -32768 ≤ v (xbt x 8 3) ∧ v (xbt x 8 3) ≤ 32767 := hv _ (by have := n3 (x := x) (s := 8); omega)
  have i4 := n3 (x := x) (s := 4)
  have i6 := n3 (x := x) (s := 6)
  have i8 := n3 (x := x) (s := 8)
  have l10 := xbt_le (x := x) (s := 10) (m := 31)
  have hc := cst_lt (x := x)
  have hn := nn_lt (x := x)
  obtain ⟨a, ea⟩ : ∃ a, xbt x 4 3 = a := ⟨_, rfl⟩
  obtain ⟨w, ew⟩ : ∃ w, xbt x 6 3 = w := ⟨_, rfl⟩
  obtain ⟨u, eu⟩ : ∃ u, xbt x 8 3 = u := ⟨_, rfl⟩
  obtain ⟨c, ec⟩ : ∃ c, cst x = c := ⟨_, rfl⟩
  obtain ⟨n, en⟩ : ∃ n, nn x = n := ⟨_, rfl⟩
  have x4 : x >>> 4 &&& 3 = Int32.ofNat a := by rw [← ea]; exact xbt_s (by decide) (by decide)
  have x6 : x >>> 6 &&& 3 = Int32.ofNat w := by rw [← ew]; exact xbt_s (by decide) (by decide)
  have x8 : x >>> 8 &&& 3 = Int32.ofNat u := by rw [← eu]; exact xbt_s (by decide) (by decide)
  have xc : ∀ (d : Nat) (h : am_H), am_M (d + 1) 9 [.int x] h = some (some (.int (Int32.ofNat c)), h) := fun d h => by rw [← ec]; exact cst_ok
  have xn : (1 : Int64) + (Int32.ofNat (xbt x 10 31) - Int32.ofNat (xbt x 10 31) / 9 * 9).toInt64 = Int64.ofInt n := by
    rw [n_rem (by omega) (by decide), n_i64 (by show xbt x 10 31 % 9 < 2147483648; omega), l_1, l_nat, l_add, ← en]
    rfl
  have b4 := n_bnd (n := a) (a := 124788933419) (by show a < 12; omega) (by omega)
  have b6 := n_bnd (n := w) (a := 124788933419) (by show w < 12; omega) (by omega)
  have b8 := n_bnd (n := u) (a := 124788933419) (by show u < 12; omega) (by omega)
  have t4 : (Int32.ofNat a).toNatClampNeg = a := tn_of (by omega)
  have t6 : (Int32.ofNat w).toNatClampNeg = w := tn_of (by omega)
  have t8 : (Int32.ofNat u).toNatClampNeg = u := tn_of (by omega)
  have ci : (Int32.ofNat c).toInt64 = Int64.ofInt c := by rw [n_i64 (by omega), l_nat]
  rw [ew] at hw i6
  rw [eu] at hu i8
  rw [ea] at i4
  rw [ec] at hc
  rw [en] at hn
  obtain ⟨W, eW⟩ : ∃ W, v w = W := ⟨_, rfl⟩
  obtain ⟨U, eU⟩ : ∃ U, v u = U := ⟨_, rfl⟩
  have r6 : am_g (HK g c0 s0 N v P) 124788933419 w = .long (Int64.ofInt W) := by rw [HK_v (by omega), eW]
  have r8 : am_g (HK g c0 s0 N v P) 124788933419 u = .long (Int64.ofInt U) := by rw [HK_v (by omega), eU]
  rw [eW] at hw
  rw [eU] at hu
  have hs : stOf x = St.get a w := by unfold stOf; rw [hk, ea, ew]; rfl
  have k0 : (lg_cmp (Int64.ofInt W) 0 < 0) = (W < 0) := by rw [l_0]; exact l_lt (by omega) (by omega) (by decide) (by decide)
  have k3 : (lg_cmp (Int64.ofInt W) 3 ≤ 0) = (W ≤ 3) := by rw [l_3]; exact l_le (by omega) (by omega) (by decide) (by decide)
  by_cases q0 : W < 0
  · have k0' := k0.trans (eq_true q0)
    have fin : actF (stOf x) v = (2, v) := by
      rw [hs]
      show (if 0 ≤ v w ∧ v w ≤ 3 then _ else _) = _
      rw [eW, if_neg (by omega)]
    rw [fin, e13 rfl]
    simp (disch := (refine id ?_; first | with_reducible assumption | exact Nat.ne_of_beq_eq_false rfl | with_unfolding_all exact rfl | with_unfolding_all exact Nat.le_of_ble_eq_true rfl | (simp only [am_cat_nil, am_cat_int, am_cat_ref, am_cat_null, am_cat_long, Nat.reduceAdd, Nat.reduceLeDiff]; done) | omega | exact i_bnd2 (by simp only [am_n, Nat.reduceDiv, Nat.reduceMod, Nat.reduceMul, Nat.reduceAdd]; omega) | decide | fail)) only [z13_0, z13_1, z13_3, z13_4, z13_5, z13_5N, z13_6, z13_7, z13_9, z13_10, z13_11, z13_12, z13_13, z13_14, z13_14N, z13_15, z13_16, z13_18, z13_19, z13_20, z13_21, z13_22, z13_24, z13_25, z13_26, z13_28, z13_29, z13_31, z13_32, z13_34, z13_35, z13_36, z13_37, z13_39, z13_40, z13_41, z13_44, z13_44N, z13_45, z13_46, z13_47, z13_50, z13_51, z13_54, z13_57, z13_58, z13_59, z13_60, z13_61, z13_63, z13_64, z13_65, z13_66, z13_67, z13_69, z13_72, z13_73, z13_74, z13_75, z13_78, z13_79, z13_82, z13_83, z13_86, z13_87, z13_88, z13_89, z13_92, z13_93, z13_95, z13_96, z13_99, z13_100, z13_101, z13_104, z13_105, z13_106, z13_109, z13_110, z13_111, z13_114, z13_115, z13_116, z13_119, z13_120, z13_122, z13_123, z13_126, z13_127, z13_128, z13_131, z13_132, z13_134, z13_137, z13_140, z13_141, z13_142, z13_145, z13_146, z13_148, z13_149, z13_151, z13_154, z13_155, z13_156, z13_159, z13_160, z13_162, z13_165, z13_165N, z13_166, z13_167, z13_168, z13_169, z13_170, z13_171, z13_174, z13_175, z13_178, z13_179, z13_181, z13_183, z13_186, z13_187, z13_190, z13_192, z13_195, z13_196, z13_199, z13_200, z13_201, z13_201N, z13_202, z13_203, z13_204, z13_205, z13_206, z13_207, z13_209, z13_210, z13_211, x4, x6, x8, xc, xn, b4, b6, b8, t4, t6, t8, ci, r6, r8, xbt_10, i_m4, i_m6, i_m8, i_m10, i_eqll, i_lell, i_ltll, Nat.reduceEqDiff, Nat.reduceLeDiff, Nat.reduceLT, hx, k0', ↓reduceIte, i_10, i_00, am_then_some, am_tl1, am_tl0, i_addl, ad2, Nat.reduceAdd, Int32.reduceToNatClampNeg, List.nil_append]
    rfl
  · have k0' := k0.trans (eq_false q0)
    by_cases q3 : W ≤ 3
    · have k3' := k3.trans (eq_true q3)
      obtain ⟨r, er⟩ : ∃ r : Nat, r = W.toNat := ⟨_, rfl⟩
      have hr : W = (r : Int) := by omega
      obtain ⟨R, eR⟩ : ∃ R : Int, v (4 + r) = R := ⟨_, rfl⟩
      have hR := hv (4 + r) (by omega)
      rw [eR] at hR
      have m3 : (Int64.ofInt W).toInt32 = Int32.ofNat r := by rw [hr]; exact l_32 (by omega)
      have m4 : (4 : Int32) + Int32.ofNat r = Int32.ofNat (4 + r) := n_add (x := 4)
      have t5 : (Int32.ofNat (4 + r)).toNatClampNeg = 4 + r := tn_of (by omega)
      have b5 := n_bnd (n := 4 + r) (a := 124788933419) (by show 4 + r < 12; omega) (by omega)
      have r5 : am_g (HK g c0 s0 N v P) 124788933419 (4 + r) = .long (Int64.ofInt R) := by rw [HK_v (by omega), eR]
      have k1 : (lg_cmp (Int64.ofInt R) (-32768) < 0) = (R < -32768) := by rw [l_m]; exact l_lt (by omega) (by omega) (by decide) (by decide)
      have k2 : (lg_cmp (Int64.ofInt R) 32767 ≤ 0) = (R ≤ 32767) := by rw [l_x]; exact l_le (by omega) (by omega) (by decide) (by decide)
      have hW : am_p (HK g c0 s0 N v P) 124788933419 a (.long (Int64.ofInt R)) = HK g c0 s0 N (up v a R) P := HK_w (by omega)
      have k1' := k1.trans (eq_false (by omega))
      have k2' := k2.trans (eq_true (by omega))
      have fin : actF (stOf x) v = (0, up v a R) := by
        rw [hs]
        show (if 0 ≤ v w ∧ v w ≤ 3 then (0, up v a (v (4 + (v w).toNat))) else _) = _
        rw [eW, if_pos (by omega), ← er, eR]
      rw [fin, e13 rfl]
      simp (disch := (refine id ?_; first | with_reducible assumption | exact Nat.ne_of_beq_eq_false rfl | with_unfolding_all exact rfl | with_unfolding_all exact Nat.le_of_ble_eq_true rfl | (simp only [am_cat_nil, am_cat_int, am_cat_ref, am_cat_null, am_cat_long, Nat.reduceAdd, Nat.reduceLeDiff]; done) | omega | exact i_bnd2 (by simp only [am_n, Nat.reduceDiv, Nat.reduceMod, Nat.reduceMul, Nat.reduceAdd]; omega) | decide | fail)) only [z13_0, z13_1, z13_3, z13_4, z13_5, z13_5N, z13_6, z13_7, z13_9, z13_10, z13_11, z13_12, z13_13, z13_14, z13_14N, z13_15, z13_16, z13_18, z13_19, z13_20, z13_21, z13_22, z13_24, z13_25, z13_26, z13_28, z13_29, z13_31, z13_32, z13_34, z13_35, z13_36, z13_37, z13_39, z13_40, z13_41, z13_44, z13_44N, z13_45, z13_46, z13_47, z13_50, z13_51, z13_54, z13_57, z13_58, z13_59, z13_60, z13_61, z13_63, z13_64, z13_65, z13_66, z13_67, z13_69, z13_72, z13_73, z13_74, z13_75, z13_78, z13_79, z13_82, z13_83, z13_86, z13_87, z13_88, z13_89, z13_92, z13_93, z13_95, z13_96, z13_99, z13_100, z13_101, z13_104, z13_105, z13_106, z13_109, z13_110, z13_111, z13_114, z13_115, z13_116, z13_119, z13_120, z13_122, z13_123, z13_126, z13_127, z13_128, z13_131, z13_132, z13_134, z13_137, z13_140, z13_141, z13_142, z13_145, z13_146, z13_148, z13_149, z13_151, z13_154, z13_155, z13_156, z13_159, z13_160, z13_162, z13_165, z13_165N, z13_166, z13_167, z13_168, z13_169, z13_170, z13_171, z13_174, z13_175, z13_178, z13_179, z13_181, z13_183, z13_186, z13_187, z13_190, z13_192, z13_195, z13_196, z13_199, z13_200, z13_201, z13_201N, z13_202, z13_203, z13_204, z13_205, z13_206, z13_207, z13_209, z13_210, z13_211, x4, x6, x8, xc, xn, b4, b6, b8, t4, t6, t8, ci, r6, r8, xbt_10, i_m4, i_m6, i_m8, i_m10, i_eqll, i_lell, i_ltll, Nat.reduceEqDiff, Nat.reduceLeDiff, Nat.reduceLT, hx, k0', k3', m3, m4, t5, b5, r5, k1', k2', hW, ↓reduceIte, i_10, i_00, am_then_some, am_tl1, am_tl0, i_addl, ad2, Nat.reduceAdd, Int32.reduceToNatClampNeg, List.nil_append]
      rfl
    · have k3' := k3.trans (eq_false q3)
      have fin : actF (stOf x) v = (2, v) := by
        rw [hs]
        show (if 0 ≤ v w ∧ v w ≤ 3 then _ else _) = _
        rw [eW, if_neg (by omega)]
      rw [fin, e13 rfl]
      simp (disch := (refine id ?_; first | with_reducible assumption | exact Nat.ne_of_beq_eq_false rfl | with_unfolding_all exact rfl | with_unfolding_all exact Nat.le_of_ble_eq_true rfl | (simp only [am_cat_nil, am_cat_int, am_cat_ref, am_cat_null, am_cat_long, Nat.reduceAdd, Nat.reduceLeDiff]; done) | omega | exact i_bnd2 (by simp only [am_n, Nat.reduceDiv, Nat.reduceMod, Nat.reduceMul, Nat.reduceAdd]; omega) | decide | fail)) only [z13_0, z13_1, z13_3, z13_4, z13_5, z13_5N, z13_6, z13_7, z13_9, z13_10, z13_11, z13_12, z13_13, z13_14, z13_14N, z13_15, z13_16, z13_18, z13_19, z13_20, z13_21, z13_22, z13_24, z13_25, z13_26, z13_28, z13_29, z13_31, z13_32, z13_34, z13_35, z13_36, z13_37, z13_39, z13_40, z13_41, z13_44, z13_44N, z13_45, z13_46, z13_47, z13_50, z13_51, z13_54, z13_57, z13_58, z13_59, z13_60, z13_61, z13_63, z13_64, z13_65, z13_66, z13_67, z13_69, z13_72, z13_73, z13_74, z13_75, z13_78, z13_79, z13_82, z13_83, z13_86, z13_87, z13_88, z13_89, z13_92, z13_93, z13_95, z13_96, z13_99, z13_100, z13_101, z13_104, z13_105, z13_106, z13_109, z13_110, z13_111, z13_114, z13_115, z13_116, z13_119, z13_120, z13_122, z13_123, z13_126, z13_127, z13_128, z13_131, z13_132, z13_134, z13_137, z13_140, z13_141, z13_142, z13_145, z13_146, z13_148, z13_149, z13_151, z13_154, z13_155, z13_156, z13_159, z13_160, z13_162, z13_165, z13_165N, z13_166, z13_167, z13_168, z13_169, z13_170, z13_171, z13_174, z13_175, z13_178, z13_179, z13_181, z13_183, z13_186, z13_187, z13_190, z13_192, z13_195, z13_196, z13_199, z13_200, z13_201, z13_201N, z13_202, z13_203, z13_204, z13_205, z13_206, z13_207, z13_209, z13_210, z13_211, x4, x6, x8, xc, xn, b4, b6, b8, t4, t6, t8, ci, r6, r8, xbt_10, i_m4, i_m6, i_m8, i_m10, i_eqll, i_lell, i_ltll, Nat.reduceEqDiff, Nat.reduceLeDiff, Nat.reduceLT, hx, k0', k3', ↓reduceIte, i_10, i_00, am_then_some, am_tl1, am_tl0, i_addl, ad2, Nat.reduceAdd, Int32.reduceToNatClampNeg, List.nil_append]
      rfl
theorem act_7 {x : Int32} (hk : xbt x 0 7 = 7) (hv : VRG v) : am_M (d + 3) 13 [.ref 124788933419, .int x] (HK g c0 s0 N v P) = some (some (.int (Int32.ofNat (actF (stOf x) v).1)), HK g c0 s0 N (actF (stOf x) v).2 P) := by
  have hx : x &&& 7 = 7 := xbt_7.trans (by rw [hk]; rfl)
  have hw : -32768 ≤ v (xbt x 6 3) ∧ v (xbt x 6 3) ≤ 32767 := hv _ (by have := n3 (x := x) (s := 6); omega)
  have hu : -32768 ≤ v (xbt x 8 3) ∧ v (xbt x 8 3) ≤ 32767 := hv _ (by have := n3 (x := x) (s := 8); omega)
  have i4 := n3 (x := x) (s := 4)
  have i6 := n3 (x := x) (s := 6)
  have i8 := n3 (x := x) (s := 8)
  have l10 := xbt_le (x := x) (s := 10) (m := 31)
  have hc := cst_lt (x := x)
  have hn := nn_lt (x := x)
  obtain ⟨a, ea⟩ : ∃ a, xbt x 4 3 = a := ⟨_, rfl⟩
  obtain ⟨w, ew⟩ : ∃ w, xbt x 6 3 = w := ⟨_, rfl⟩
  obtain ⟨u, eu⟩ : ∃ u, xbt x 8 3 = u := ⟨_, rfl⟩
  obtain ⟨c, ec⟩ : ∃ c, cst x = c := ⟨_, rfl⟩
  obtain ⟨n, en⟩ : ∃ n, nn x = n := ⟨_, rfl⟩
  have x4 : x >>> 4 &&& 3 = Int32.ofNat a := by rw [← ea]; exact xbt_s (by decide) (by decide)
  have x6 : x >>> 6 &&& 3 = Int32.ofNat w := by rw [← ew]; exact xbt_s (by decide) (by decide)
  have x8 : x >>> 8 &&& 3 = Int32.ofNat u := by rw [← eu]; exact xbt_s (by decide) (by decide)
  have xc : ∀ (d : Nat) (h : am_H), am_M (d + 1) 9 [.int x] h = some (some (.int (Int32.ofNat c)), h) := fun d h => by rw [← ec]; exact cst_ok
  have xn : (1 : Int64) + (Int32.ofNat (xbt x 10 31) - Int32.ofNat (xbt x 10 31) / 9 * 9).toInt64 = Int64.ofInt n := by
    rw [n_rem (by omega) (by decide), n_i64 (by show xbt x 10 31 % 9 < 2147483648; omega), l_1, l_nat, l_add, ← en]
    rfl
  have b4 := n_bnd (n := a) (a := 124788933419) (by show a < 12; omega) (by omega)
  have b6 := n_bnd (n := w) (a := 124788933419) (by show w < 12; omega) (by omega)
  have b8 := n_bnd (n := u) (a := 124788933419) (by show u < 12; omega) (by omega)
  have t4 : (Int32.ofNat a).toNatClampNeg = a := tn_of (by omega)
  have t6 : (Int32.ofNat w).toNatClampNeg = w := tn_of (by omega)
  have t8 : (Int32.ofNat u).toNatClampNeg = u := tn_of (by omega)
  have ci : (Int32.ofNat c).toInt64 = Int64.ofInt c := by rw [n_i64 (by omega), l_nat]
  rw [ew] at hw i6
  rw [eu] at hu i8
  rw [ea] at i4
  rw [ec] at hc
  rw [en] at hn
  obtain ⟨W, eW⟩ : ∃ W, v w = W := ⟨_, rfl⟩
  obtain ⟨U, eU⟩ : ∃ U, v u = U := ⟨_, rfl⟩
  have r6 : am_g (HK g c0 s0 N v P) 124788933419 w = .long (Int64.ofInt W) := by rw [HK_v (by omega), eW]
  have r8 : am_g (HK g c0 s0 N v P) 124788933419 u = .long (Int64.ofInt U) := by rw [HK_v (by omega), eU]
  rw [eW] at hw
  rw [eU] at hu
  have hs : stOf x = St.con a c := by unfold stOf; rw [hk, ea, ec]; rfl
  obtain ⟨R, eR⟩ : ∃ R : Int, (c : Int) = R := ⟨_, rfl⟩
  rw [eR] at ci
  have k1 : (lg_cmp (Int64.ofInt R) (-32768) < 0) = (R < -32768) := by rw [l_m]; exact l_lt (by omega) (by omega) (by decide) (by decide)
  have k2 : (lg_cmp (Int64.ofInt R) 32767 ≤ 0) = (R ≤ 32767) := by rw [l_x]; exact l_le (by omega) (by omega) (by decide) (by decide)
  have hW : am_p (HK g c0 s0 N v P) 124788933419 a (.long (Int64.ofInt R)) = HK g c0 s0 N (up v a R) P := HK_w (by omega)
  have k1' := k1.trans (eq_false (by omega))
  have k2' := k2.trans (eq_true (by omega))
  have fin : actF (stOf x) v = (0, up v a R) := by
    rw [hs, ← eR]
    rfl
  rw [fin, e13 rfl]
  simp (disch := (refine id ?_; first | with_reducible assumption | exact Nat.ne_of_beq_eq_false rfl | with_unfolding_all exact rfl | with_unfolding_all exact Nat.le_of_ble_eq_true rfl | (simp only [am_cat_nil, am_cat_int, am_cat_ref, am_cat_null, am_cat_long, Nat.reduceAdd, Nat.reduceLeDiff]; done) | omega | exact i_bnd2 (by simp only [am_n, Nat.reduceDiv, Nat.reduceMod, Nat.reduceMul, Nat.reduceAdd]; omega) | decide | fail)) only [z13_0, z13_1, z13_3, z13_4, z13_5, z13_5N, z13_6, z13_7, z13_9, z13_10, z13_11, z13_12, z13_13, z13_14, z13_14N, z13_15, z13_16, z13_18, z13_19, z13_20, z13_21, z13_22, z13_24, z13_25, z13_26, z13_28, z13_29, z13_31, z13_32, z13_34, z13_35, z13_36, z13_37, z13_39, z13_40, z13_41, z13_44, z13_44N, z13_45, z13_46, z13_47, z13_50, z13_51, z13_54, z13_57, z13_58, z13_59, z13_60, z13_61, z13_63, z13_64, z13_65, z13_66, z13_67, z13_69, z13_72, z13_73, z13_74, z13_75, z13_78, z13_79, z13_82, z13_83, z13_86, z13_87, z13_88, z13_89, z13_92, z13_93, z13_95, z13_96, z13_99, z13_100, z13_101, z13_104, z13_105, z13_106, z13_109, z13_110, z13_111, z13_114, z13_115, z13_116, z13_119, z13_120, z13_122, z13_123, z13_126, z13_127, z13_128, z13_131, z13_132, z13_134, z13_137, z13_140, z13_141, z13_142, z13_145, z13_146, z13_148, z13_149, z13_151, z13_154, z13_155, z13_156, z13_159, z13_160, z13_162, z13_165, z13_165N, z13_166, z13_167, z13_168, z13_169, z13_170, z13_171, z13_174, z13_175, z13_178, z13_179, z13_181, z13_183, z13_186, z13_187, z13_190, z13_192, z13_195, z13_196, z13_199, z13_200, z13_201, z13_201N, z13_202, z13_203, z13_204, z13_205, z13_206, z13_207, z13_209, z13_210, z13_211, x4, x6, x8, xc, xn, b4, b6, b8, t4, t6, t8, ci, r6, r8, xbt_10, i_m4, i_m6, i_m8, i_m10, i_eqll, i_lell, i_ltll, Nat.reduceEqDiff, Nat.reduceLeDiff, Nat.reduceLT, hx, k1', k2', hW, ↓reduceIte, i_10, i_00, am_then_some, am_tl1, am_tl0, i_addl, ad2, Nat.reduceAdd, Int32.reduceToNatClampNeg, List.nil_append]
  rfl
theorem act_ok {x : Int32} (hv : VRG v) : am_M (d + 3) 13 [.ref 124788933419, .int x] (HK g c0 s0 N v P) = some (some (.int (Int32.ofNat (actF (stOf x) v).1)), HK g c0 s0 N (actF (stOf x) v).2 P) := by
  have l := xbt_le (x := x) (s := 0) (m := 7)
  have c : xbt x 0 7 = 0 ∨ xbt x 0 7 = 1 ∨ xbt x 0 7 = 2 ∨ xbt x 0 7 = 3 ∨ xbt x 0 7 = 4 ∨ xbt x 0 7 = 5 ∨ xbt x 0 7 = 6 ∨ xbt x 0 7 = 7 := by omega
  rcases c with c | c | c | c | c | c | c | c
  · exact act_0 c hv
  · exact act_1 c hv
  · exact act_2 c hv
  · exact act_3 c hv
  · exact act_4 c hv
  · exact act_5 c hv
  · exact act_6 c hv
  · exact act_7 c hv
end
