/-! Text: reading tokens (printed by gen/text.py) -/
set_option maxRecDepth 100000
set_option maxHeartbeats 4000000
def HT (g : Nat → Nat → Value) (c0 s0 : Nat) (bt : Nat → Int32) (sz : Nat) (tk : Nat → Int32) (tp : Nat → Int32) (tf : Nat → Int64) (ts : Nat → Int64) (t : Nat) : am_H := (c0, s0, fun a k => if a = 124537274373 then (if k = 0 then .ref 124554179625 else if k = 2 then .ref 124570956906 else if k = 3 then .ref 124587734122 else if k = 4 then .ref 124604511339 else if k = 5 then .ref 124621288555 else if k = 7 then .ref 4831838210 else if k = 1 then .int (Int32.ofNat sz) else if k = 6 then .int (Int32.ofNat t) else g a k) else if a = 4831838210 then (if k = 0 then .ref 4848618092 else g a k) else if a = 124554179625 then .int (bt k) else if a = 124570956906 then .int (tk k) else if a = 124587734122 then .int (tp k) else if a = 124604511339 then .long (tf k) else if a = 124621288555 then .long (ts k) else g a k)
theorem HT_r0 {g : Nat → Nat → Value} {c0 s0 : Nat} {bt : Nat → Int32} {sz : Nat} {tk : Nat → Int32} {tp : Nat → Int32} {tf : Nat → Int64} {ts : Nat → Int64} {t : Nat} : am_g (HT g c0 s0 bt sz tk tp tf ts t) 124537274373 0 = .ref 124554179625 := rfl
theorem HT_r1 {g : Nat → Nat → Value} {c0 s0 : Nat} {bt : Nat → Int32} {sz : Nat} {tk : Nat → Int32} {tp : Nat → Int32} {tf : Nat → Int64} {ts : Nat → Int64} {t : Nat} : am_g (HT g c0 s0 bt sz tk tp tf ts t) 124537274373 2 = .ref 124570956906 := rfl
theorem HT_r2 {g : Nat → Nat → Value} {c0 s0 : Nat} {bt : Nat → Int32} {sz : Nat} {tk : Nat → Int32} {tp : Nat → Int32} {tf : Nat → Int64} {ts : Nat → Int64} {t : Nat} : am_g (HT g c0 s0 bt sz tk tp tf ts t) 124537274373 3 = .ref 124587734122 := rfl
theorem HT_r3 {g : Nat → Nat → Value} {c0 s0 : Nat} {bt : Nat → Int32} {sz : Nat} {tk : Nat → Int32} {tp : Nat → Int32} {tf : Nat → Int64} {ts : Nat → Int64} {t : Nat} : am_g (HT g c0 s0 bt sz tk tp tf ts t) 124537274373 4 = .ref 124604511339 := rfl
theorem HT_r4 {g : Nat → Nat → Value} {c0 s0 : Nat} {bt : Nat → Int32} {sz : Nat} {tk : Nat → Int32} {tp : Nat → Int32} {tf : Nat → Int64} {ts : Nat → Int64} {t : Nat} : am_g (HT g c0 s0 bt sz tk tp tf ts t) 124537274373 5 = .ref 124621288555 := rfl
theorem HT_r5 {g : Nat → Nat → Value} {c0 s0 : Nat} {bt : Nat → Int32} {sz : Nat} {tk : Nat → Int32} {tp : Nat → Int32} {tf : Nat → Int64} {ts : Nat → Int64} {t : Nat} : am_g (HT g c0 s0 bt sz tk tp tf ts t) 124537274373 7 = .ref 4831838210 := rfl
theorem HT_r6 {g : Nat → Nat → Value} {c0 s0 : Nat} {bt : Nat → Int32} {sz : Nat} {tk : Nat → Int32} {tp : Nat → Int32} {tf : Nat → Int64} {ts : Nat → Int64} {t : Nat} : am_g (HT g c0 s0 bt sz tk tp tf ts t) 124537274373 1 = .int (Int32.ofNat sz) := rfl
theorem HT_w6 {g : Nat → Nat → Value} {c0 s0 : Nat} {bt : Nat → Int32} {sz : Nat} {tk : Nat → Int32} {tp : Nat → Int32} {tf : Nat → Int64} {ts : Nat → Int64} {t : Nat} {w : Nat} : am_p (HT g c0 s0 bt sz tk tp tf ts t) 124537274373 1 (.int (Int32.ofNat w)) = HT g c0 s0 bt w tk tp tf ts t := by
  refine Prod.ext rfl (Prod.ext rfl ?_)
  funext b j
  show (if b = 124537274373 ∧ j = 1 then _ else (HT g c0 s0 bt sz tk tp tf ts t).2.2 b j) = (HT g c0 s0 bt w tk tp tf ts t).2.2 b j
  by_cases h : b = 124537274373
  · subst h
    by_cases h2 : j = 1
    · subst h2; rfl
    · simp [HT, h2]
  · simp [HT, h]
theorem HT_r7 {g : Nat → Nat → Value} {c0 s0 : Nat} {bt : Nat → Int32} {sz : Nat} {tk : Nat → Int32} {tp : Nat → Int32} {tf : Nat → Int64} {ts : Nat → Int64} {t : Nat} : am_g (HT g c0 s0 bt sz tk tp tf ts t) 124537274373 6 = .int (Int32.ofNat t) := rfl
theorem HT_w7 {g : Nat → Nat → Value} {c0 s0 : Nat} {bt : Nat → Int32} {sz : Nat} {tk : Nat → Int32} {tp : Nat → Int32} {tf : Nat → Int64} {ts : Nat → Int64} {t : Nat} {w : Nat} : am_p (HT g c0 s0 bt sz tk tp tf ts t) 124537274373 6 (.int (Int32.ofNat w)) = HT g c0 s0 bt sz tk tp tf ts w := by
  refine Prod.ext rfl (Prod.ext rfl ?_)
  funext b j
  show (if b = 124537274373 ∧ j = 6 then _ else (HT g c0 s0 bt sz tk tp tf ts t).2.2 b j) = (HT g c0 s0 bt sz tk tp tf ts w).2.2 b j
  by_cases h : b = 124537274373
  · subst h
    by_cases h2 : j = 6
    · subst h2; rfl
    · simp [HT, h2]
  · simp [HT, h]
theorem HT_r8 {g : Nat → Nat → Value} {c0 s0 : Nat} {bt : Nat → Int32} {sz : Nat} {tk : Nat → Int32} {tp : Nat → Int32} {tf : Nat → Int64} {ts : Nat → Int64} {t : Nat} : am_g (HT g c0 s0 bt sz tk tp tf ts t) 4831838210 0 = .ref 4848618092 := rfl
theorem HT_a0 {g : Nat → Nat → Value} {c0 s0 : Nat} {bt : Nat → Int32} {sz : Nat} {tk : Nat → Int32} {tp : Nat → Int32} {tf : Nat → Int64} {ts : Nat → Int64} {t : Nat} {j : Nat} : am_g (HT g c0 s0 bt sz tk tp tf ts t) 124554179625 j = .int (bt j) := rfl
theorem HT_b0 {g : Nat → Nat → Value} {c0 s0 : Nat} {bt : Nat → Int32} {sz : Nat} {tk : Nat → Int32} {tp : Nat → Int32} {tf : Nat → Int64} {ts : Nat → Int64} {t : Nat} {j : Nat} {w : Int32} : am_p (HT g c0 s0 bt sz tk tp tf ts t) 124554179625 j (.int w) = HT g c0 s0 (up bt j w) sz tk tp tf ts t := by
  refine Prod.ext rfl (Prod.ext rfl ?_)
  funext b i
  show (if b = 124554179625 ∧ i = j then _ else (HT g c0 s0 bt sz tk tp tf ts t).2.2 b i) = (HT g c0 s0 (up bt j w) sz tk tp tf ts t).2.2 b i
  by_cases h : b = 124554179625
  · subst h
    by_cases h2 : i = j
    · subst h2; simp [HT, up]
    · simp [HT, up, h2]
  · simp [HT, h]
theorem HT_a1 {g : Nat → Nat → Value} {c0 s0 : Nat} {bt : Nat → Int32} {sz : Nat} {tk : Nat → Int32} {tp : Nat → Int32} {tf : Nat → Int64} {ts : Nat → Int64} {t : Nat} {j : Nat} : am_g (HT g c0 s0 bt sz tk tp tf ts t) 124570956906 j = .int (tk j) := rfl
theorem HT_b1 {g : Nat → Nat → Value} {c0 s0 : Nat} {bt : Nat → Int32} {sz : Nat} {tk : Nat → Int32} {tp : Nat → Int32} {tf : Nat → Int64} {ts : Nat → Int64} {t : Nat} {j : Nat} {w : Int32} : am_p (HT g c0 s0 bt sz tk tp tf ts t) 124570956906 j (.int w) = HT g c0 s0 bt sz (up tk j w) tp tf ts t := by
  refine Prod.ext rfl (Prod.ext rfl ?_)
  funext b i
  show (if b = 124570956906 ∧ i = j then _ else (HT g c0 s0 bt sz tk tp tf ts t).2.2 b i) = (HT g c0 s0 bt sz (up tk j w) tp tf ts t).2.2 b i
  by_cases h : b = 124570956906
  · subst h
    by_cases h2 : i = j
    · subst h2; simp [HT, up]
    · simp [HT, up, h2]
  · simp [HT, h]
theorem HT_a2 {g : Nat → Nat → Value} {c0 s0 : Nat} {bt : Nat → Int32} {sz : Nat} {tk : Nat → Int32} {tp : Nat → Int32} {tf : Nat → Int64} {ts : Nat → Int64} {t : Nat} {j : Nat} : am_g (HT g c0 s0 bt sz tk tp tf ts t) 124587734122 j = .int (tp j) := rfl
theorem HT_b2 {g : Nat → Nat → Value} {c0 s0 : Nat} {bt : Nat → Int32} {sz : Nat} {tk : Nat → Int32} {tp : Nat → Int32} {tf : Nat → Int64} {ts : Nat → Int64} {t : Nat} {j : Nat} {w : Int32} : am_p (HT g c0 s0 bt sz tk tp tf ts t) 124587734122 j (.int w) = HT g c0 s0 bt sz tk (up tp j w) tf ts t := by
  refine Prod.ext rfl (Prod.ext rfl ?_)
  funext b i
  show (if b = 124587734122 ∧ i = j then _ else (HT g c0 s0 bt sz tk tp tf ts t).2.2 b i) = (HT g c0 s0 bt sz tk (up tp j w) tf ts t).2.2 b i
  by_cases h : b = 124587734122
  · subst h
    by_cases h2 : i = j
    · subst h2; simp [HT, up]
    · simp [HT, up, h2]
  · simp [HT, h]
theorem HT_a3 {g : Nat → Nat → Value} {c0 s0 : Nat} {bt : Nat → Int32} {sz : Nat} {tk : Nat → Int32} {tp : Nat → Int32} {tf : Nat → Int64} {ts : Nat → Int64} {t : Nat} {j : Nat} : am_g (HT g c0 s0 bt sz tk tp tf ts t) 124604511339 j = .long (tf j) := rfl
theorem HT_b3 {g : Nat → Nat → Value} {c0 s0 : Nat} {bt : Nat → Int32} {sz : Nat} {tk : Nat → Int32} {tp : Nat → Int32} {tf : Nat → Int64} {ts : Nat → Int64} {t : Nat} {j : Nat} {w : Int64} : am_p (HT g c0 s0 bt sz tk tp tf ts t) 124604511339 j (.long w) = HT g c0 s0 bt sz tk tp (up tf j w) ts t := by
  refine Prod.ext rfl (Prod.ext rfl ?_)
  funext b i
  show (if b = 124604511339 ∧ i = j then _ else (HT g c0 s0 bt sz tk tp tf ts t).2.2 b i) = (HT g c0 s0 bt sz tk tp (up tf j w) ts t).2.2 b i
  by_cases h : b = 124604511339
  · subst h
    by_cases h2 : i = j
    · subst h2; simp [HT, up]
    · simp [HT, up, h2]
  · simp [HT, h]
theorem HT_a4 {g : Nat → Nat → Value} {c0 s0 : Nat} {bt : Nat → Int32} {sz : Nat} {tk : Nat → Int32} {tp : Nat → Int32} {tf : Nat → Int64} {ts : Nat → Int64} {t : Nat} {j : Nat} : am_g (HT g c0 s0 bt sz tk tp tf ts t) 124621288555 j = .long (ts j) := rfl
theorem HT_b4 {g : Nat → Nat → Value} {c0 s0 : Nat} {bt : Nat → Int32} {sz : Nat} {tk : Nat → Int32} {tp : Nat → Int32} {tf : Nat → Int64} {ts : Nat → Int64} {t : Nat} {j : Nat} {w : Int64} : am_p (HT g c0 s0 bt sz tk tp tf ts t) 124621288555 j (.long w) = HT g c0 s0 bt sz tk tp tf (up ts j w) t := by
  refine Prod.ext rfl (Prod.ext rfl ?_)
  funext b i
  show (if b = 124621288555 ∧ i = j then _ else (HT g c0 s0 bt sz tk tp tf ts t).2.2 b i) = (HT g c0 s0 bt sz tk tp tf (up ts j w) t).2.2 b i
  by_cases h : b = 124621288555
  · subst h
    by_cases h2 : i = j
    · subst h2; simp [HT, up]
    · simp [HT, up, h2]
  · simp [HT, h]
theorem HT_of {h : am_H} {bt : Nat → Int32} {sz : Nat} {tk : Nat → Int32} {tp : Nat → Int32} {tf : Nat → Int64} {ts : Nat → Int64} {t : Nat} (hc0 : am_g h 124537274373 0 = .ref 124554179625) (hc1 : am_g h 124537274373 2 = .ref 124570956906) (hc2 : am_g h 124537274373 3 = .ref 124587734122) (hc3 : am_g h 124537274373 4 = .ref 124604511339) (hc4 : am_g h 124537274373 5 = .ref 124621288555) (hc5 : am_g h 124537274373 7 = .ref 4831838210) (hc6 : am_g h 124537274373 1 = .int (Int32.ofNat sz)) (hc7 : am_g h 124537274373 6 = .int (Int32.ofNat t)) (hc8 : am_g h 4831838210 0 = .ref 4848618092) (ha0 : ∀ j, am_g h 124554179625 j = .int (bt j)) (ha1 : ∀ j, am_g h 124570956906 j = .int (tk j)) (ha2 : ∀ j, am_g h 124587734122 j = .int (tp j)) (ha3 : ∀ j, am_g h 124604511339 j = .long (tf j)) (ha4 : ∀ j, am_g h 124621288555 j = .long (ts j)) : h = HT h.2.2 h.1 h.2.1 bt sz tk tp tf ts t := by
  refine Prod.ext rfl (Prod.ext rfl ?_)
  funext b j
  refine hs_ite (fun e => ?_) (fun _ => ?_)
  · subst e
    refine hs_ite (fun e => by subst e; exact hc0) (fun _ => ?_)
    refine hs_ite (fun e => by subst e; exact hc1) (fun _ => ?_)
    refine hs_ite (fun e => by subst e; exact hc2) (fun _ => ?_)
    refine hs_ite (fun e => by subst e; exact hc3) (fun _ => ?_)
    refine hs_ite (fun e => by subst e; exact hc4) (fun _ => ?_)
    refine hs_ite (fun e => by subst e; exact hc5) (fun _ => ?_)
    refine hs_ite (fun e => by subst e; exact hc6) (fun _ => ?_)
    refine hs_ite (fun e => by subst e; exact hc7) (fun _ => ?_)
    rfl
  refine hs_ite (fun e => ?_) (fun _ => ?_)
  · subst e
    refine hs_ite (fun e => by subst e; exact hc8) (fun _ => ?_)
    rfl
  refine hs_ite (fun e => by subst e; exact ha0 _) (fun _ => ?_)
  refine hs_ite (fun e => by subst e; exact ha1 _) (fun _ => ?_)
  refine hs_ite (fun e => by subst e; exact ha2 _) (fun _ => ?_)
  refine hs_ite (fun e => by subst e; exact ha3 _) (fun _ => ?_)
  refine hs_ite (fun e => by subst e; exact ha4 _) (fun _ => ?_)
  rfl
def bF (T : Nat → Nat) : Nat → Int32 := fun k => Int32.ofNat (T k)
/-- the sign at a place of a text -/
def CH (T : Nat → Nat) (sz k : Nat) : Nat := if k < sz then T k else 0
theorem CH_lt {T : Nat → Nat} {sz k : Nat} (h : ∀ k, T k < 128) : CH T sz k < 128 := by unfold CH; split; exact h k; decide
abbrev cLet (c : Nat) : Prop := 97 ≤ c ∧ c ≤ 122 ∨ 65 ≤ c ∧ c ≤ 90
abbrev cDig (c : Nat) : Prop := 48 ≤ c ∧ c ≤ 57
abbrev cHigh (c : Nat) : Prop := cDig c ∨ 65 ≤ c ∧ c ≤ 70
def cd (c : Nat) : Int64 := Int64.ofNat (if cDig c then c - 47 else if 97 ≤ c then c - 86 else c - 28)
theorem n_ltl (n k : Nat) (h : n < 2147483648) (hk : (OfNat.ofNat k : Nat) < 2147483648) : (Int32.ofNat n < (no_index (OfNat.ofNat k))) = (n < OfNat.ofNat k) := n_gt (n := OfNat.ofNat k) (k := n) hk h
theorem n_gtl (n k : Nat) (h : n < 2147483648) (hk : (OfNat.ofNat k : Nat) < 2147483648) : ((no_index (OfNat.ofNat k)) < Int32.ofNat n) = (OfNat.ofNat k < n) := n_gt (n := n) (k := OfNat.ofNat k) h hk
theorem n_lel (n k : Nat) (h : n < 2147483648) (hk : (OfNat.ofNat k : Nat) < 2147483648) : (Int32.ofNat n ≤ (no_index (OfNat.ofNat k))) = ¬ (OfNat.ofNat k < n) := n_le (n := n) (k := OfNat.ofNat k) h hk
theorem n_eql (n k : Nat) (h : n < 2147483648) (hk : (OfNat.ofNat k : Nat) < 2147483648) : (Int32.ofNat n = (no_index (OfNat.ofNat k))) = (n = OfNat.ofNat k) := by
  by_cases c : n = OfNat.ofNat k
  · rw [c]; exact (eq_true rfl).trans (eq_true rfl).symm
  · rw [eq_false c]; exact eq_false (i_ne c h hk)
theorem n_eqn (n k : Nat) (h : n < 2147483648) (hk : k < 2147483648) : (Int32.ofNat n = Int32.ofNat k) = (n = k) := by
  by_cases c : n = k
  · rw [c]; simp
  · rw [eq_false c]; exact eq_false (i_ne c h hk)
theorem n_ltn (n k : Nat) (h : n < 2147483648) (hk : k < 2147483648) : (Int32.ofNat n < Int32.ofNat k) = (n < k) := n_gt hk h
theorem n_subn (n k : Nat) (h : k ≤ n) : Int32.ofNat n - Int32.ofNat k = Int32.ofNat (n - k) := by
  have := (Int32.ofNat_add (n - k) k).symm
  rw [show n - k + k = n by omega] at this
  rw [← this, Int32.add_sub_cancel]
theorem n_subl (n k : Nat) (h : OfNat.ofNat k ≤ n) : Int32.ofNat n - (no_index (OfNat.ofNat k)) = Int32.ofNat (n - OfNat.ofNat k) := n_subn n _ h
theorem n_i16 {n : Nat} (h : n < 32768) : (Int32.ofNat n).toInt16.toInt32 = Int32.ofNat n := by
  apply Int32.toInt_inj.mp
  rw [Int16.toInt_toInt32, Int32.toInt_toInt16, ti_of (by omega)]
  apply Int.bmod_eq_of_le <;> simp <;> omega
theorem n_i8 {n : Nat} (h : n < 128) : (Int32.ofNat n).toInt8.toInt32 = Int32.ofNat n := by
  apply Int32.toInt_inj.mp
  rw [Int8.toInt_toInt32, Int32.toInt_toInt8, ti_of (by omega)]
  apply Int.bmod_eq_of_le <;> simp <;> omega
theorem n_i64 {n : Nat} (h : n < 2147483648) : (Int32.ofNat n).toInt64 = Int64.ofNat n := by
  apply Int64.toInt_inj.mp
  rw [Int32.toInt_toInt64, ti_of h, Int64.toInt_ofNat_of_lt (by omega)]
section
variable {d c : Nat} {h : am_H}
theorem tx_dig (hc : c < 128) : am_M (d + 1) 50 [.int (Int32.ofNat c)] h = some (some (.int (if cDig c then 1 else 0)), h) := by
  rw [e50]
  by_cases a1 : c < 48
  · rw [if_neg (by omega)]
    simp (disch := (refine id ?_; first | with_reducible assumption | with_unfolding_all exact rfl | with_unfolding_all exact Nat.le_of_ble_eq_true rfl | (simp only [am_cat_nil, am_cat_int, am_cat_ref, am_cat_null, am_cat_long, Nat.reduceAdd, Nat.reduceLeDiff]; done) | omega | exact i_bnd2 (by simp only [am_n, Nat.reduceDiv, Nat.reduceMod, Nat.reduceMul, Nat.reduceAdd]; omega) | fail)) only [z50_0, z50_1, z50_3, z50_6, z50_7, z50_9, z50_12, z50_13, z50_16, z50_17, HT_r0, HT_r1, HT_r2, HT_r3, HT_r4, HT_r5, HT_r6, HT_r7, HT_r8, HT_a0, HT_a1, HT_a2, HT_a3, HT_a4, HT_w6, HT_w7, HT_b0, HT_b1, HT_b2, HT_b3, HT_b4, n_ltl, n_gtl, n_lel, n_eql, a1, ↓reduceIte, i_10, i_00, am_then_some, am_tl1, am_tl0, i_addl, ad2, Nat.reduceAdd, tn_of, List.nil_append]
  · by_cases a2 : 57 < c
    · rw [if_neg (by omega)]
      simp (disch := (refine id ?_; first | with_reducible assumption | with_unfolding_all exact rfl | with_unfolding_all exact Nat.le_of_ble_eq_true rfl | (simp only [am_cat_nil, am_cat_int, am_cat_ref, am_cat_null, am_cat_long, Nat.reduceAdd, Nat.reduceLeDiff]; done) | omega | exact i_bnd2 (by simp only [am_n, Nat.reduceDiv, Nat.reduceMod, Nat.reduceMul, Nat.reduceAdd]; omega) | fail)) only [z50_0, z50_1, z50_3, z50_6, z50_7, z50_9, z50_12, z50_13, z50_16, z50_17, HT_r0, HT_r1, HT_r2, HT_r3, HT_r4, HT_r5, HT_r6, HT_r7, HT_r8, HT_a0, HT_a1, HT_a2, HT_a3, HT_a4, HT_w6, HT_w7, HT_b0, HT_b1, HT_b2, HT_b3, HT_b4, n_ltl, n_gtl, n_lel, n_eql, a1, a2, ↓reduceIte, i_10, i_00, am_then_some, am_tl1, am_tl0, i_addl, ad2, Nat.reduceAdd, tn_of, List.nil_append]
    · rw [if_pos (by omega)]
      simp (disch := (refine id ?_; first | with_reducible assumption | with_unfolding_all exact rfl | with_unfolding_all exact Nat.le_of_ble_eq_true rfl | (simp only [am_cat_nil, am_cat_int, am_cat_ref, am_cat_null, am_cat_long, Nat.reduceAdd, Nat.reduceLeDiff]; done) | omega | exact i_bnd2 (by simp only [am_n, Nat.reduceDiv, Nat.reduceMod, Nat.reduceMul, Nat.reduceAdd]; omega) | fail)) only [z50_0, z50_1, z50_3, z50_6, z50_7, z50_9, z50_12, z50_13, z50_16, z50_17, HT_r0, HT_r1, HT_r2, HT_r3, HT_r4, HT_r5, HT_r6, HT_r7, HT_r8, HT_a0, HT_a1, HT_a2, HT_a3, HT_a4, HT_w6, HT_w7, HT_b0, HT_b1, HT_b2, HT_b3, HT_b4, n_ltl, n_gtl, n_lel, n_eql, a1, a2, ↓reduceIte, i_10, i_00, am_then_some, am_tl1, am_tl0, i_addl, ad2, Nat.reduceAdd, tn_of, List.nil_append]
theorem tx_let (hc : c < 128) : am_M (d + 1) 56 [.int (Int32.ofNat c)] h = some (some (.int (if cLet c then 1 else 0)), h) := by
  rw [e56]
  by_cases a1 : c < 97
  · by_cases a2 : c < 65
    · rw [if_neg (by omega)]
      simp (disch := (refine id ?_; first | with_reducible assumption | with_unfolding_all exact rfl | with_unfolding_all exact Nat.le_of_ble_eq_true rfl | (simp only [am_cat_nil, am_cat_int, am_cat_ref, am_cat_null, am_cat_long, Nat.reduceAdd, Nat.reduceLeDiff]; done) | omega | exact i_bnd2 (by simp only [am_n, Nat.reduceDiv, Nat.reduceMod, Nat.reduceMul, Nat.reduceAdd]; omega) | fail)) only [z56_0, z56_1, z56_3, z56_6, z56_7, z56_9, z56_12, z56_13, z56_15, z56_18, z56_19, z56_21, z56_24, z56_25, z56_28, z56_29, HT_r0, HT_r1, HT_r2, HT_r3, HT_r4, HT_r5, HT_r6, HT_r7, HT_r8, HT_a0, HT_a1, HT_a2, HT_a3, HT_a4, HT_w6, HT_w7, HT_b0, HT_b1, HT_b2, HT_b3, HT_b4, n_ltl, n_gtl, n_lel, n_eql, a1, a2, ↓reduceIte, i_10, i_00, am_then_some, am_tl1, am_tl0, i_addl, ad2, Nat.reduceAdd, tn_of, List.nil_append]
    · by_cases a3 : 90 < c
      · rw [if_neg (by omega)]
        simp (disch := (refine id ?_; first | with_reducible assumption | with_unfolding_all exact rfl | with_unfolding_all exact Nat.le_of_ble_eq_true rfl | (simp only [am_cat_nil, am_cat_int, am_cat_ref, am_cat_null, am_cat_long, Nat.reduceAdd, Nat.reduceLeDiff]; done) | omega | exact i_bnd2 (by simp only [am_n, Nat.reduceDiv, Nat.reduceMod, Nat.reduceMul, Nat.reduceAdd]; omega) | fail)) only [z56_0, z56_1, z56_3, z56_6, z56_7, z56_9, z56_12, z56_13, z56_15, z56_18, z56_19, z56_21, z56_24, z56_25, z56_28, z56_29, HT_r0, HT_r1, HT_r2, HT_r3, HT_r4, HT_r5, HT_r6, HT_r7, HT_r8, HT_a0, HT_a1, HT_a2, HT_a3, HT_a4, HT_w6, HT_w7, HT_b0, HT_b1, HT_b2, HT_b3, HT_b4, n_ltl, n_gtl, n_lel, n_eql, a1, a2, a3, ↓reduceIte, i_10, i_00, am_then_some, am_tl1, am_tl0, i_addl, ad2, Nat.reduceAdd, tn_of, List.nil_append]
      · rw [if_pos (by omega)]
        simp (disch := (refine id ?_; first | with_reducible assumption | with_unfolding_all exact rfl | with_unfolding_all exact Nat.le_of_ble_eq_true rfl | (simp only [am_cat_nil, am_cat_int, am_cat_ref, am_cat_null, am_cat_long, Nat.reduceAdd, Nat.reduceLeDiff]; done) | omega | exact i_bnd2 (by simp only [am_n, Nat.reduceDiv, Nat.reduceMod, Nat.reduceMul, Nat.reduceAdd]; omega) | fail)) only [z56_0, z56_1, z56_3, z56_6, z56_7, z56_9, z56_12, z56_13, z56_15, z56_18, z56_19, z56_21, z56_24, z56_25, z56_28, z56_29, HT_r0, HT_r1, HT_r2, HT_r3, HT_r4, HT_r5, HT_r6, HT_r7, HT_r8, HT_a0, HT_a1, HT_a2, HT_a3, HT_a4, HT_w6, HT_w7, HT_b0, HT_b1, HT_b2, HT_b3, HT_b4, n_ltl, n_gtl, n_lel, n_eql, a1, a2, a3, ↓reduceIte, i_10, i_00, am_then_some, am_tl1, am_tl0, i_addl, ad2, Nat.reduceAdd, tn_of, List.nil_append]
  · have a2 : ¬ c < 65 := by omega
    by_cases a3 : 122 < c
    · have a4 : 90 < c := by omega
      rw [if_neg (by omega)]
      simp (disch := (refine id ?_; first | with_reducible assumption | with_unfolding_all exact rfl | with_unfolding_all exact Nat.le_of_ble_eq_true rfl | (simp only [am_cat_nil, am_cat_int, am_cat_ref, am_cat_null, am_cat_long, Nat.reduceAdd, Nat.reduceLeDiff]; done) | omega | exact i_bnd2 (by simp only [am_n, Nat.reduceDiv, Nat.reduceMod, Nat.reduceMul, Nat.reduceAdd]; omega) | fail)) only [z56_0, z56_1, z56_3, z56_6, z56_7, z56_9, z56_12, z56_13, z56_15, z56_18, z56_19, z56_21, z56_24, z56_25, z56_28, z56_29, HT_r0, HT_r1, HT_r2, HT_r3, HT_r4, HT_r5, HT_r6, HT_r7, HT_r8, HT_a0, HT_a1, HT_a2, HT_a3, HT_a4, HT_w6, HT_w7, HT_b0, HT_b1, HT_b2, HT_b3, HT_b4, n_ltl, n_gtl, n_lel, n_eql, a1, a2, a3, a4, not_true_eq_false, ↓reduceIte, i_10, i_00, am_then_some, am_tl1, am_tl0, i_addl, ad2, Nat.reduceAdd, tn_of, List.nil_append]
    · rw [if_pos (by omega)]
      simp (disch := (refine id ?_; first | with_reducible assumption | with_unfolding_all exact rfl | with_unfolding_all exact Nat.le_of_ble_eq_true rfl | (simp only [am_cat_nil, am_cat_int, am_cat_ref, am_cat_null, am_cat_long, Nat.reduceAdd, Nat.reduceLeDiff]; done) | omega | exact i_bnd2 (by simp only [am_n, Nat.reduceDiv, Nat.reduceMod, Nat.reduceMul, Nat.reduceAdd]; omega) | fail)) only [z56_0, z56_1, z56_3, z56_6, z56_7, z56_9, z56_12, z56_13, z56_15, z56_18, z56_19, z56_21, z56_24, z56_25, z56_28, z56_29, HT_r0, HT_r1, HT_r2, HT_r3, HT_r4, HT_r5, HT_r6, HT_r7, HT_r8, HT_a0, HT_a1, HT_a2, HT_a3, HT_a4, HT_w6, HT_w7, HT_b0, HT_b1, HT_b2, HT_b3, HT_b4, n_ltl, n_gtl, n_lel, n_eql, a1, a2, a3, not_false_eq_true, ↓reduceIte, i_10, i_00, am_then_some, am_tl1, am_tl0, i_addl, ad2, Nat.reduceAdd, tn_of, List.nil_append]
theorem tx_high (hc : c < 128) : am_M (d + 2) 60 [.int (Int32.ofNat c)] h = some (some (.int (if cHigh c then 1 else 0)), h) := by
  have q := tx_dig (d := d) (h := h) hc
  rw [e60]
  by_cases a0 : cDig c
  · rw [if_pos a0] at q
    rw [if_pos (Or.inl a0)]
    simp (disch := (refine id ?_; first | with_reducible assumption | with_unfolding_all exact rfl | with_unfolding_all exact Nat.le_of_ble_eq_true rfl | (simp only [am_cat_nil, am_cat_int, am_cat_ref, am_cat_null, am_cat_long, Nat.reduceAdd, Nat.reduceLeDiff]; done) | omega | exact i_bnd2 (by simp only [am_n, Nat.reduceDiv, Nat.reduceMod, Nat.reduceMul, Nat.reduceAdd]; omega) | fail)) only [z60_0, z60_1, z60_4, z60_7, z60_8, z60_10, z60_13, z60_14, z60_16, z60_19, z60_20, z60_23, z60_24, HT_r0, HT_r1, HT_r2, HT_r3, HT_r4, HT_r5, HT_r6, HT_r7, HT_r8, HT_a0, HT_a1, HT_a2, HT_a3, HT_a4, HT_w6, HT_w7, HT_b0, HT_b1, HT_b2, HT_b3, HT_b4, q, ↓reduceIte, i_10, i_00, am_then_some, am_tl1, am_tl0, i_addl, ad2, Nat.reduceAdd, tn_of, List.nil_append]
  · rw [if_neg a0] at q
    by_cases a1 : c < 65
    · rw [if_neg (by omega)]
      simp (disch := (refine id ?_; first | with_reducible assumption | with_unfolding_all exact rfl | with_unfolding_all exact Nat.le_of_ble_eq_true rfl | (simp only [am_cat_nil, am_cat_int, am_cat_ref, am_cat_null, am_cat_long, Nat.reduceAdd, Nat.reduceLeDiff]; done) | omega | exact i_bnd2 (by simp only [am_n, Nat.reduceDiv, Nat.reduceMod, Nat.reduceMul, Nat.reduceAdd]; omega) | fail)) only [z60_0, z60_1, z60_4, z60_7, z60_8, z60_10, z60_13, z60_14, z60_16, z60_19, z60_20, z60_23, z60_24, HT_r0, HT_r1, HT_r2, HT_r3, HT_r4, HT_r5, HT_r6, HT_r7, HT_r8, HT_a0, HT_a1, HT_a2, HT_a3, HT_a4, HT_w6, HT_w7, HT_b0, HT_b1, HT_b2, HT_b3, HT_b4, n_ltl, n_gtl, n_lel, n_eql, q, a1, ↓reduceIte, i_10, i_00, am_then_some, am_tl1, am_tl0, i_addl, ad2, Nat.reduceAdd, tn_of, List.nil_append]
    · by_cases a2 : 70 < c
      · rw [if_neg (by omega)]
        simp (disch := (refine id ?_; first | with_reducible assumption | with_unfolding_all exact rfl | with_unfolding_all exact Nat.le_of_ble_eq_true rfl | (simp only [am_cat_nil, am_cat_int, am_cat_ref, am_cat_null, am_cat_long, Nat.reduceAdd, Nat.reduceLeDiff]; done) | omega | exact i_bnd2 (by simp only [am_n, Nat.reduceDiv, Nat.reduceMod, Nat.reduceMul, Nat.reduceAdd]; omega) | fail)) only [z60_0, z60_1, z60_4, z60_7, z60_8, z60_10, z60_13, z60_14, z60_16, z60_19, z60_20, z60_23, z60_24, HT_r0, HT_r1, HT_r2, HT_r3, HT_r4, HT_r5, HT_r6, HT_r7, HT_r8, HT_a0, HT_a1, HT_a2, HT_a3, HT_a4, HT_w6, HT_w7, HT_b0, HT_b1, HT_b2, HT_b3, HT_b4, n_ltl, n_gtl, n_lel, n_eql, q, a1, a2, ↓reduceIte, i_10, i_00, am_then_some, am_tl1, am_tl0, i_addl, ad2, Nat.reduceAdd, tn_of, List.nil_append]
      · rw [if_pos (by omega)]
        simp (disch := (refine id ?_; first | with_reducible assumption | with_unfolding_all exact rfl | with_unfolding_all exact Nat.le_of_ble_eq_true rfl | (simp only [am_cat_nil, am_cat_int, am_cat_ref, am_cat_null, am_cat_long, Nat.reduceAdd, Nat.reduceLeDiff]; done) | omega | exact i_bnd2 (by simp only [am_n, Nat.reduceDiv, Nat.reduceMod, Nat.reduceMul, Nat.reduceAdd]; omega) | fail)) only [z60_0, z60_1, z60_4, z60_7, z60_8, z60_10, z60_13, z60_14, z60_16, z60_19, z60_20, z60_23, z60_24, HT_r0, HT_r1, HT_r2, HT_r3, HT_r4, HT_r5, HT_r6, HT_r7, HT_r8, HT_a0, HT_a1, HT_a2, HT_a3, HT_a4, HT_w6, HT_w7, HT_b0, HT_b1, HT_b2, HT_b3, HT_b4, n_ltl, n_gtl, n_lel, n_eql, q, a1, a2, ↓reduceIte, i_10, i_00, am_then_some, am_tl1, am_tl0, i_addl, ad2, Nat.reduceAdd, tn_of, List.nil_append]
theorem tx_code (hc : c < 128) (hl : cLet c ∨ cDig c) : am_M (d + 2) 49 [.int (Int32.ofNat c)] h = some (some (.long (cd c)), h) := by
  have q := tx_dig (d := d) (h := h) hc
  rw [e49]
  by_cases a0 : cDig c
  · rw [if_pos a0] at q
    have e1 : (Int32.ofNat (c - 48 + 1)).toInt64 = cd c := by unfold cd; rw [if_pos a0, n_i64 (by omega)]; congr 1; omega
    simp (disch := (refine id ?_; first | with_reducible assumption | with_unfolding_all exact rfl | with_unfolding_all exact Nat.le_of_ble_eq_true rfl | (simp only [am_cat_nil, am_cat_int, am_cat_ref, am_cat_null, am_cat_long, Nat.reduceAdd, Nat.reduceLeDiff]; done) | omega | exact i_bnd2 (by simp only [am_n, Nat.reduceDiv, Nat.reduceMod, Nat.reduceMul, Nat.reduceAdd]; omega) | fail)) only [z49_0, z49_1, z49_4, z49_7, z49_8, z49_10, z49_11, z49_12, z49_13, z49_14, z49_17, z49_18, z49_20, z49_23, z49_24, z49_26, z49_27, z49_29, z49_30, z49_31, z49_34, z49_35, z49_37, z49_38, z49_40, z49_41, z49_42, HT_r0, HT_r1, HT_r2, HT_r3, HT_r4, HT_r5, HT_r6, HT_r7, HT_r8, HT_a0, HT_a1, HT_a2, HT_a3, HT_a4, HT_w6, HT_w7, HT_b0, HT_b1, HT_b2, HT_b3, HT_b4, q, n_subl, e1, ↓reduceIte, i_10, i_00, am_then_some, am_tl1, am_tl0, i_addl, ad2, Nat.reduceAdd, tn_of, List.nil_append]
  · rw [if_neg a0] at q
    by_cases a1 : c < 97
    · have e1 : (Int32.ofNat (c - 65 + 37)).toInt64 = cd c := by unfold cd; rw [if_neg a0, if_neg (by omega), n_i64 (by omega)]; congr 1; omega
      simp (disch := (refine id ?_; first | with_reducible assumption | with_unfolding_all exact rfl | with_unfolding_all exact Nat.le_of_ble_eq_true rfl | (simp only [am_cat_nil, am_cat_int, am_cat_ref, am_cat_null, am_cat_long, Nat.reduceAdd, Nat.reduceLeDiff]; done) | omega | exact i_bnd2 (by simp only [am_n, Nat.reduceDiv, Nat.reduceMod, Nat.reduceMul, Nat.reduceAdd]; omega) | fail)) only [z49_0, z49_1, z49_4, z49_7, z49_8, z49_10, z49_11, z49_12, z49_13, z49_14, z49_17, z49_18, z49_20, z49_23, z49_24, z49_26, z49_27, z49_29, z49_30, z49_31, z49_34, z49_35, z49_37, z49_38, z49_40, z49_41, z49_42, HT_r0, HT_r1, HT_r2, HT_r3, HT_r4, HT_r5, HT_r6, HT_r7, HT_r8, HT_a0, HT_a1, HT_a2, HT_a3, HT_a4, HT_w6, HT_w7, HT_b0, HT_b1, HT_b2, HT_b3, HT_b4, n_ltl, n_gtl, n_lel, n_eql, q, a1, n_subl, e1, ↓reduceIte, i_10, i_00, am_then_some, am_tl1, am_tl0, i_addl, ad2, Nat.reduceAdd, tn_of, List.nil_append]
    · have e1 : (Int32.ofNat (c - 97 + 11)).toInt64 = cd c := by unfold cd; rw [if_neg a0, if_pos (by omega), n_i64 (by omega)]; congr 1; omega
      simp (disch := (refine id ?_; first | with_reducible assumption | with_unfolding_all exact rfl | with_unfolding_all exact Nat.le_of_ble_eq_true rfl | (simp only [am_cat_nil, am_cat_int, am_cat_ref, am_cat_null, am_cat_long, Nat.reduceAdd, Nat.reduceLeDiff]; done) | omega | exact i_bnd2 (by simp only [am_n, Nat.reduceDiv, Nat.reduceMod, Nat.reduceMul, Nat.reduceAdd]; omega) | fail)) only [z49_0, z49_1, z49_4, z49_7, z49_8, z49_10, z49_11, z49_12, z49_13, z49_14, z49_17, z49_18, z49_20, z49_23, z49_24, z49_26, z49_27, z49_29, z49_30, z49_31, z49_34, z49_35, z49_37, z49_38, z49_40, z49_41, z49_42, HT_r0, HT_r1, HT_r2, HT_r3, HT_r4, HT_r5, HT_r6, HT_r7, HT_r8, HT_a0, HT_a1, HT_a2, HT_a3, HT_a4, HT_w6, HT_w7, HT_b0, HT_b1, HT_b2, HT_b3, HT_b4, n_ltl, n_gtl, n_lel, n_eql, q, a1, n_subl, e1, ↓reduceIte, i_10, i_00, am_then_some, am_tl1, am_tl0, i_addl, ad2, Nat.reduceAdd, tn_of, List.nil_append]
end
section
variable {d : Nat} {g : Nat → Nat → Value} {c0 s0 : Nat} {T : Nat → Nat} {sz : Nat} {tk tp : Nat → Int32} {tf ts : Nat → Int64} {t : Nat}
theorem tx_at {k : Nat} (hT : ∀ k, T k < 128) (hs : sz < 2001) (hk : k < 2147483648) : am_M (d + 1) 51 [.ref 124537274373, .int (Int32.ofNat k)] (HT g c0 s0 (bF T) sz tk tp tf ts t) = some (some (.int (Int32.ofNat (CH T sz k))), HT g c0 s0 (bF T) sz tk tp tf ts t) := by
  have q : (Int32.ofNat sz ≤ Int32.ofNat k) = ¬ (k < sz) := n_le (by omega) (by omega)
  rw [e51]
  unfold CH
  by_cases c : k < sz
  · rw [if_pos c]
    have q1 : bF T k &&& 255 = Int32.ofNat (T k) := by
      unfold bF
      rw [n_and255 (by have := hT k; omega)]
      congr 1
      have := hT k
      omega
    simp (disch := (refine id ?_; first | with_reducible assumption | with_unfolding_all exact rfl | with_unfolding_all exact Nat.le_of_ble_eq_true rfl | (simp only [am_cat_nil, am_cat_int, am_cat_ref, am_cat_null, am_cat_long, Nat.reduceAdd, Nat.reduceLeDiff]; done) | omega | exact i_bnd2 (by simp only [am_n, Nat.reduceDiv, Nat.reduceMod, Nat.reduceMul, Nat.reduceAdd]; omega) | fail)) only [z51_0, z51_1, z51_2, z51_5, z51_8, z51_9, z51_12, z51_13, z51_14, z51_17, z51_18, z51_21, z51_22, HT_r0, HT_r1, HT_r2, HT_r3, HT_r4, HT_r5, HT_r6, HT_r7, HT_r8, HT_a0, HT_a1, HT_a2, HT_a3, HT_a4, HT_w6, HT_w7, HT_b0, HT_b1, HT_b2, HT_b3, HT_b4, q, c, q1, not_true_eq_false, not_false_eq_true, ↓reduceIte, i_10, i_00, am_then_some, am_tl1, am_tl0, i_addl, ad2, Nat.reduceAdd, tn_of, List.nil_append]
  · rw [if_neg c]
    simp (disch := (refine id ?_; first | with_reducible assumption | with_unfolding_all exact rfl | with_unfolding_all exact Nat.le_of_ble_eq_true rfl | (simp only [am_cat_nil, am_cat_int, am_cat_ref, am_cat_null, am_cat_long, Nat.reduceAdd, Nat.reduceLeDiff]; done) | omega | exact i_bnd2 (by simp only [am_n, Nat.reduceDiv, Nat.reduceMod, Nat.reduceMul, Nat.reduceAdd]; omega) | fail)) only [z51_0, z51_1, z51_2, z51_5, z51_8, z51_9, z51_12, z51_13, z51_14, z51_17, z51_18, z51_21, z51_22, HT_r0, HT_r1, HT_r2, HT_r3, HT_r4, HT_r5, HT_r6, HT_r7, HT_r8, HT_a0, HT_a1, HT_a2, HT_a3, HT_a4, HT_w6, HT_w7, HT_b0, HT_b1, HT_b2, HT_b3, HT_b4, q, c, not_true_eq_false, not_false_eq_true, ↓reduceIte, i_10, i_00, am_then_some, am_tl1, am_tl0, i_addl, ad2, Nat.reduceAdd, tn_of, List.nil_append]
    rfl
theorem tx_add {kd : Int32} {p : Nat} {a b : Int64} (ht : t < 2001) (hp : p < 32768) (hk : kd.toInt16.toInt32 = kd) : am_M (d + 1) 55 [.ref 124537274373, .int kd, .int (Int32.ofNat p), .long a, .long b] (HT g c0 s0 (bF T) sz tk tp tf ts t) = some (none, HT g c0 s0 (bF T) sz (up tk t kd) (up tp t (Int32.ofNat p)) (up tf t a) (up ts t b) (t + 1)) := by
  rw [e55]
  simp (disch := (refine id ?_; first | with_reducible assumption | with_unfolding_all exact rfl | with_unfolding_all exact Nat.le_of_ble_eq_true rfl | (simp only [am_cat_nil, am_cat_int, am_cat_ref, am_cat_null, am_cat_long, Nat.reduceAdd, Nat.reduceLeDiff]; done) | omega | exact i_bnd2 (by simp only [am_n, Nat.reduceDiv, Nat.reduceMod, Nat.reduceMul, Nat.reduceAdd]; omega) | fail)) only [z55_0, z55_1, z55_4, z55_5, z55_8, z55_9, z55_10, z55_11, z55_12, z55_15, z55_16, z55_19, z55_20, z55_21, z55_22, z55_23, z55_26, z55_27, z55_30, z55_31, z55_32, z55_33, z55_36, z55_37, z55_40, z55_42, z55_43, z55_44, z55_44I, z55_45, z55_48, z55_49, z55_50, z55_53, HT_r0, HT_r1, HT_r2, HT_r3, HT_r4, HT_r5, HT_r6, HT_r7, HT_r8, HT_a0, HT_a1, HT_a2, HT_a3, HT_a4, HT_w6, HT_w7, HT_b0, HT_b1, HT_b2, HT_b3, HT_b4, hk, n_i16, ↓reduceIte, i_10, i_00, am_then_some, am_tl1, am_tl0, i_addl, ad2, Nat.reduceAdd, tn_of, List.nil_append]
end
def RWL : List (List Nat) := [[65, 78, 68], [65, 82, 82, 65, 89], [66, 69, 71, 73, 78], [66, 89], [67, 65, 83, 69], [67, 79, 78, 83, 84], [68, 69, 70, 73, 78, 73, 84, 73, 79, 78], [68, 73, 86], [68, 79], [69, 76, 83, 69], [69, 76, 83, 73, 70], [69, 78, 68], [69, 88, 73, 84], [69, 88, 80, 79, 82, 84], [70, 79, 82], [70, 79, 82, 87, 65, 82, 68], [70, 82, 79, 77], [73, 70], [73, 77, 80, 76, 69, 77, 69, 78, 84, 65, 84, 73, 79, 78], [73, 77, 80, 79, 82, 84], [73, 78], [76, 79, 79, 80], [77, 79, 68], [77, 79, 68, 85, 76, 69], [78, 79, 84], [79, 70], [79, 82], [80, 79, 73, 78, 84, 69, 82], [80, 82, 79, 67, 69, 68, 85, 82, 69], [81, 85, 65, 76, 73, 70, 73, 69, 68], [82, 69, 67, 79, 82, 68], [82, 69, 80, 69, 65, 84], [82, 69, 84, 85, 82, 78], [83, 69, 84], [84, 72, 69, 78], [84, 79], [84, 89, 80, 69], [85, 78, 84, 73, 76], [86, 65, 82], [87, 72, 73, 76, 69], [87, 73, 84, 72]]
def SGL : List Nat := [43, 45, 42, 47, 46, 44, 59, 40, 41, 91, 93, 123, 125, 94, 124, 61, 35, 60, 62, 58]
/-- the strings of the words that are no names -/
def WRD (g : Nat → Nat → Value) : Prop := ∀ w, w < 41 → ∃ a, g 4848618092 w = .ref a ∧ STR (286, 0, g) a (RWL.getD w [])
def SGN (g : Nat → Nat → Value) : Prop := STR (286, 0, g) 1442840595 SGL
/-- what reads as another heap below the first cell made, has its strings -/
theorem str_low {g : Nat → Nat → Value} {h : am_H} {a : Nat} {l : List Nat} (s : STR (286, 0, g) a l) (h1 : 286 ≤ h.1) (hs : ∀ x k, am_i x < 286 → am_g h x k = g x k) : STR h a l := str_mono s h1 (fun x k hx _ => hs x k hx)
def resG : Nat → Nat → List Nat → Nat
  | 0, _, _ => 100
  | m + 1, i, w => if RWL.getD i [] = w then i + 1 else resG m (i + 1) w
def sgF : Nat → Nat → Nat → Int32
  | 0, _, _ => -1
  | m + 1, k, c => if SGL.getD k 0 = c then Int32.ofNat (k + 110) else sgF m (k + 1) c
def wF (a : Int64) (w : List Nat) : Int64 := w.foldl (fun a c => a <<< 6 ||| cd c) a
def vF (v : Nat) (w : List Nat) : Nat := w.foldl (fun a c => 10 * a + (c - 48)) v
theorem sh_6 : ((6 : Int32).toInt64 &&& 63) = (6 : Int64) := by decide
theorem n_gel (n k : Nat) (h : n < 2147483648) (hk : (OfNat.ofNat k : Nat) < 2147483648) : ((no_index (OfNat.ofNat k)) ≤ Int32.ofNat n) = ¬ (n < OfNat.ofNat k) := n_le (n := OfNat.ofNat k) (k := n) hk h
theorem lgc_le {v : Nat} (h : v < 65536) : (lg_cmp (Int64.ofNat v) 65535 ≤ 0) = True := by
  have e : ¬ (65535 : Int64) < Int64.ofNat v := by
    rw [Int64.lt_iff_toInt_lt, Int64.toInt_ofNat_of_lt (by omega)]
    show ¬ (65535 : Int) < v
    omega
  unfold lg_cmp
  rw [if_neg e]
  split <;> exact eq_true (by decide)
theorem getD_cons {c : Nat} {w : List Nat} {j : Nat} : (c :: w).getD (j + 1) 0 = w.getD j 0 := rfl
theorem HT_low {g : Nat → Nat → Value} {c0 s0 : Nat} {T : Nat → Nat} {sz : Nat} {tk tp : Nat → Int32} {tf ts : Nat → Int64} {t : Nat} {x k : Nat} (hx : am_i x < 286) : am_g (HT g c0 s0 (bF T) sz tk tp tf ts t) x k = g x k := by
  have n0 : x ≠ 124537274373 := fun e => by rw [e] at hx; exact absurd hx (by decide)
  have n1 : x ≠ 4831838210 := fun e => by rw [e] at hx; exact absurd hx (by decide)
  have n2 : x ≠ 124554179625 := fun e => by rw [e] at hx; exact absurd hx (by decide)
  have n3 : x ≠ 124570956906 := fun e => by rw [e] at hx; exact absurd hx (by decide)
  have n4 : x ≠ 124587734122 := fun e => by rw [e] at hx; exact absurd hx (by decide)
  have n5 : x ≠ 124604511339 := fun e => by rw [e] at hx; exact absurd hx (by decide)
  have n6 : x ≠ 124621288555 := fun e => by rw [e] at hx; exact absurd hx (by decide)
  show (if x = 124537274373 then _ else if x = 4831838210 then _ else if x = 124554179625 then _ else if x = 124570956906 then _ else if x = 124587734122 then _ else if x = 124604511339 then _ else if x = 124621288555 then _ else g x k) = _
  rw [if_neg n0, if_neg n1, if_neg n2, if_neg n3, if_neg n4, if_neg n5, if_neg n6]
section
variable {d : Nat} {g : Nat → Nat → Value} {c0 s0 : Nat} {T : Nat → Nat} {sz : Nat} {tk tp : Nat → Int32} {tf ts : Nat → Int64} {t : Nat}
theorem tx_bl0 {f k : Nat} {z : Option Value} (hT : ∀ k, T k < 128) (hs : sz < 2001) (hk : k ≤ sz) (h1 : k < sz → CH T sz k ≠ 32 ∧ CH T sz k ≠ 10 ∧ ¬ (CH T sz k = 40 ∧ CH T sz (k + 1) = 42)) : am_G (d + 1) 54 2 [some (.ref 124537274373), some (.int (Int32.ofNat f)), some (.int (Int32.ofNat k)), z] [] (HT g c0 s0 (bF T) sz tk tp tf ts t) = some (some (.int (Int32.ofNat k)), HT g c0 s0 (bF T) sz tk tp tf ts t) := by
  have q := tx_at (d := d) (g := g) (c0 := c0) (s0 := s0) (tk := tk) (tp := tp) (tf := tf) (ts := ts) (t := t) (k := k) hT hs (by omega)
  have q1 := tx_at (d := d) (g := g) (c0 := c0) (s0 := s0) (tk := tk) (tp := tp) (tf := tf) (ts := ts) (t := t) (k := k + 1) hT hs (by omega)
  have hc := CH_lt (sz := sz) (k := k) hT
  have hc1 := CH_lt (sz := sz) (k := k + 1) hT
  have r : (Int32.ofNat sz ≤ Int32.ofNat k) = ¬ (k < sz) := n_le (by omega) (by omega)
  by_cases c : k < sz
  · obtain ⟨a1, a2, a3⟩ := h1 c
    by_cases b1 : CH T sz k = 40
    · have b2 : ¬ CH T sz (k + 1) = 42 := fun e => a3 ⟨b1, e⟩
      rw [b1] at q a1 a2
      simp (disch := (refine id ?_; first | with_reducible assumption | with_unfolding_all exact rfl | with_unfolding_all exact Nat.le_of_ble_eq_true rfl | (simp only [am_cat_nil, am_cat_int, am_cat_ref, am_cat_null, am_cat_long, Nat.reduceAdd, Nat.reduceLeDiff]; done) | omega | exact i_bnd2 (by simp only [am_n, Nat.reduceDiv, Nat.reduceMod, Nat.reduceMul, Nat.reduceAdd]; omega) | fail)) only [z54_0, z54_1, z54_2, z54_3, z54_4, z54_7, z54_10, z54_11, z54_12, z54_15, z54_17, z54_20, z54_21, z54_22, z54_25, z54_27, z54_30, z54_33, z54_36, z54_37, z54_38, z54_41, z54_43, z54_46, z54_47, z54_48, z54_49, z54_50, z54_53, z54_55, z54_58, z54_59, z54_63, z54_64, z54_65, z54_68, z54_69, z54_70, z54_71, z54_72, z54_73, z54_74, z54_77, z54_78, z54_79, z54_80, HT_r0, HT_r1, HT_r2, HT_r3, HT_r4, HT_r5, HT_r6, HT_r7, HT_r8, HT_a0, HT_a1, HT_a2, HT_a3, HT_a4, HT_w6, HT_w7, HT_b0, HT_b1, HT_b2, HT_b3, HT_b4, not_true_eq_false, not_false_eq_true, n_eql, n_eqn, n_ltn, n_ltl, n_gtl, n_lel, n_gel, n_subn, n_subl, q, q1, r, c, b2, a1, a2, ↓reduceIte, i_10, i_00, am_then_some, am_tl1, am_tl0, i_addl, ad2, Nat.reduceAdd, tn_of, List.nil_append]
    · simp (disch := (refine id ?_; first | with_reducible assumption | with_unfolding_all exact rfl | with_unfolding_all exact Nat.le_of_ble_eq_true rfl | (simp only [am_cat_nil, am_cat_int, am_cat_ref, am_cat_null, am_cat_long, Nat.reduceAdd, Nat.reduceLeDiff]; done) | omega | exact i_bnd2 (by simp only [am_n, Nat.reduceDiv, Nat.reduceMod, Nat.reduceMul, Nat.reduceAdd]; omega) | fail)) only [z54_0, z54_1, z54_2, z54_3, z54_4, z54_7, z54_10, z54_11, z54_12, z54_15, z54_17, z54_20, z54_21, z54_22, z54_25, z54_27, z54_30, z54_33, z54_36, z54_37, z54_38, z54_41, z54_43, z54_46, z54_47, z54_48, z54_49, z54_50, z54_53, z54_55, z54_58, z54_59, z54_63, z54_64, z54_65, z54_68, z54_69, z54_70, z54_71, z54_72, z54_73, z54_74, z54_77, z54_78, z54_79, z54_80, HT_r0, HT_r1, HT_r2, HT_r3, HT_r4, HT_r5, HT_r6, HT_r7, HT_r8, HT_a0, HT_a1, HT_a2, HT_a3, HT_a4, HT_w6, HT_w7, HT_b0, HT_b1, HT_b2, HT_b3, HT_b4, not_true_eq_false, not_false_eq_true, n_eql, n_eqn, n_ltn, n_ltl, n_gtl, n_lel, n_gel, n_subn, n_subl, q, r, c, a1, a2, b1, ↓reduceIte, i_10, i_00, am_then_some, am_tl1, am_tl0, i_addl, ad2, Nat.reduceAdd, tn_of, List.nil_append]
  · simp (disch := (refine id ?_; first | with_reducible assumption | with_unfolding_all exact rfl | with_unfolding_all exact Nat.le_of_ble_eq_true rfl | (simp only [am_cat_nil, am_cat_int, am_cat_ref, am_cat_null, am_cat_long, Nat.reduceAdd, Nat.reduceLeDiff]; done) | omega | exact i_bnd2 (by simp only [am_n, Nat.reduceDiv, Nat.reduceMod, Nat.reduceMul, Nat.reduceAdd]; omega) | fail)) only [z54_0, z54_1, z54_2, z54_3, z54_4, z54_7, z54_10, z54_11, z54_12, z54_15, z54_17, z54_20, z54_21, z54_22, z54_25, z54_27, z54_30, z54_33, z54_36, z54_37, z54_38, z54_41, z54_43, z54_46, z54_47, z54_48, z54_49, z54_50, z54_53, z54_55, z54_58, z54_59, z54_63, z54_64, z54_65, z54_68, z54_69, z54_70, z54_71, z54_72, z54_73, z54_74, z54_77, z54_78, z54_79, z54_80, HT_r0, HT_r1, HT_r2, HT_r3, HT_r4, HT_r5, HT_r6, HT_r7, HT_r8, HT_a0, HT_a1, HT_a2, HT_a3, HT_a4, HT_w6, HT_w7, HT_b0, HT_b1, HT_b2, HT_b3, HT_b4, not_true_eq_false, not_false_eq_true, n_eql, n_eqn, n_ltn, n_ltl, n_gtl, n_lel, n_gel, n_subn, n_subl, r, c, ↓reduceIte, i_10, i_00, am_then_some, am_tl1, am_tl0, i_addl, ad2, Nat.reduceAdd, tn_of, List.nil_append]
theorem tx_bl1 {f k : Nat} {z : Option Value} (hT : ∀ k, T k < 128) (hs : sz < 2001) (hk : k < sz) (h1 : CH T sz k = 32) : am_G (d + 1) 54 2 [some (.ref 124537274373), some (.int (Int32.ofNat f)), some (.int (Int32.ofNat k)), z] [] (HT g c0 s0 (bF T) sz tk tp tf ts t) = am_G (d + 1) 54 2 [some (.ref 124537274373), some (.int (Int32.ofNat f)), some (.int (Int32.ofNat (k + 1))), z] [] (HT g c0 s0 (bF T) sz tk tp tf ts t) := by
  have q := tx_at (d := d) (g := g) (c0 := c0) (s0 := s0) (tk := tk) (tp := tp) (tf := tf) (ts := ts) (t := t) (k := k) hT hs (by omega)
  rw [h1] at q
  have r : (Int32.ofNat sz ≤ Int32.ofNat k) = ¬ (k < sz) := n_le (by omega) (by omega)
  rw [z54_2]
  simp (disch := (refine id ?_; first | with_reducible assumption | with_unfolding_all exact rfl | with_unfolding_all exact Nat.le_of_ble_eq_true rfl | (simp only [am_cat_nil, am_cat_int, am_cat_ref, am_cat_null, am_cat_long, Nat.reduceAdd, Nat.reduceLeDiff]; done) | omega | exact i_bnd2 (by simp only [am_n, Nat.reduceDiv, Nat.reduceMod, Nat.reduceMul, Nat.reduceAdd]; omega) | fail)) only [z54_0, z54_1, z54_3, z54_4, z54_7, z54_10, z54_11, z54_12, z54_15, z54_17, z54_20, z54_21, z54_22, z54_25, z54_27, z54_30, z54_33, z54_36, z54_37, z54_38, z54_41, z54_43, z54_46, z54_47, z54_48, z54_49, z54_50, z54_53, z54_55, z54_58, z54_59, z54_63, z54_64, z54_65, z54_68, z54_69, z54_70, z54_71, z54_72, z54_73, z54_74, z54_77, z54_78, z54_79, z54_80, HT_r0, HT_r1, HT_r2, HT_r3, HT_r4, HT_r5, HT_r6, HT_r7, HT_r8, HT_a0, HT_a1, HT_a2, HT_a3, HT_a4, HT_w6, HT_w7, HT_b0, HT_b1, HT_b2, HT_b3, HT_b4, not_true_eq_false, not_false_eq_true, n_eql, n_eqn, n_ltn, n_ltl, n_gtl, n_lel, n_gel, n_subn, n_subl, q, r, hk, (show (Int32.ofNat 32 = 32) = True from eq_true rfl), ↓reduceIte, i_10, i_00, am_then_some, am_tl1, am_tl0, i_addl, ad2, Nat.reduceAdd, tn_of, List.nil_append]
theorem tx_bls {f : Nat} {z : Option Value} (hT : ∀ k, T k < 128) (hs : sz < 2001)  : ∀ (b k : Nat), (∀ j, j < b → CH T sz (k + j) = 32) → k + b ≤ sz → (k + b < sz → CH T sz (k + b) ≠ 32 ∧ CH T sz (k + b) ≠ 10 ∧ ¬ (CH T sz (k + b) = 40 ∧ CH T sz (k + b + 1) = 42)) → am_G (d + 1) 54 2 [some (.ref 124537274373), some (.int (Int32.ofNat f)), some (.int (Int32.ofNat k)), z] [] (HT g c0 s0 (bF T) sz tk tp tf ts t) = some (some (.int (Int32.ofNat (k + b))), HT g c0 s0 (bF T) sz tk tp tf ts t) := by
  intro b
  induction b with
  | zero => intro k _ h2 h3; exact tx_bl0 hT hs h2 h3
  | succ b ih =>
    intro k h1 h2 h3
    rw [tx_bl1 (k := k) hT hs (by omega) (h1 0 (by omega)), show k + (b + 1) = k + 1 + b by omega]
    refine ih (k + 1) (fun j hj => ?_) (by omega) (by rw [show k + 1 + b = k + (b + 1) by omega]; exact h3)
    rw [show k + 1 + j = k + (j + 1) by omega]; exact h1 _ (by omega)
theorem tx_blank {b k : Nat} (hT : ∀ k, T k < 128) (hs : sz < 2001) (h1 : ∀ j, j < b → CH T sz (k + j) = 32) (h2 : k + b ≤ sz) (h3 : k + b < sz → CH T sz (k + b) ≠ 32 ∧ CH T sz (k + b) ≠ 10 ∧ ¬ (CH T sz (k + b) = 40 ∧ CH T sz (k + b + 1) = 42)) : am_M (d + 2) 54 [.ref 124537274373, .int (Int32.ofNat k)] (HT g c0 s0 (bF T) sz tk tp tf ts t) = some (some (.int (Int32.ofNat (k + b))), HT g c0 s0 (bF T) sz tk tp tf ts t) := by
  rw [e54, z54_0, z54_1]
  exact tx_bls hT hs b k h1 h2 h3
theorem wd_at {w a : Nat} (hw : w < 41) (ha : g 4848618092 w = .ref a) : am_M (d + 1) 37 [.ref 4831838210, .int (Int32.ofNat w)] (HT g c0 s0 (bF T) sz tk tp tf ts t) = some (some (.ref a), HT g c0 s0 (bF T) sz tk tp tf ts t) := by
  have e : am_g (HT g c0 s0 (bF T) sz tk tp tf ts t) 4848618092 w = .ref a := ha
  rw [e37]
  simp (disch := (refine id ?_; first | with_reducible assumption | with_unfolding_all exact rfl | with_unfolding_all exact Nat.le_of_ble_eq_true rfl | (simp only [am_cat_nil, am_cat_int, am_cat_ref, am_cat_null, am_cat_long, Nat.reduceAdd, Nat.reduceLeDiff]; done) | omega | exact i_bnd2 (by simp only [am_n, Nat.reduceDiv, Nat.reduceMod, Nat.reduceMul, Nat.reduceAdd]; omega) | fail)) only [z37_0, z37_1, z37_4, z37_5, z37_6, z37_6N, HT_r0, HT_r1, HT_r2, HT_r3, HT_r4, HT_r5, HT_r6, HT_r7, HT_r8, HT_a0, HT_a1, HT_a2, HT_a3, HT_a4, HT_w6, HT_w7, HT_b0, HT_b1, HT_b2, HT_b3, HT_b4, e, ↓reduceIte, i_10, i_00, am_then_some, am_tl1, am_tl0, i_addl, ad2, Nat.reduceAdd, tn_of, List.nil_append]
theorem wd_many : am_M (d + 1) 36 [.ref 4831838210] (HT g c0 s0 (bF T) sz tk tp tf ts t) = some (some (.int 41), HT g c0 s0 (bF T) sz tk tp tf ts t) := by
  rw [e36]
  simp (disch := (refine id ?_; first | with_reducible assumption | with_unfolding_all exact rfl | with_unfolding_all exact Nat.le_of_ble_eq_true rfl | (simp only [am_cat_nil, am_cat_int, am_cat_ref, am_cat_null, am_cat_long, Nat.reduceAdd, Nat.reduceLeDiff]; done) | omega | exact i_bnd2 (by simp only [am_n, Nat.reduceDiv, Nat.reduceMod, Nat.reduceMul, Nat.reduceAdd]; omega) | fail)) only [z36_0, z36_1, z36_4, z36_5, HT_r0, HT_r1, HT_r2, HT_r3, HT_r4, HT_r5, HT_r6, HT_r7, HT_r8, HT_a0, HT_a1, HT_a2, HT_a3, HT_a4, HT_w6, HT_w7, HT_b0, HT_b1, HT_b2, HT_b3, HT_b4, ↓reduceIte, i_10, i_00, am_then_some, am_tl1, am_tl0, i_addl, ad2, Nat.reduceAdd, tn_of, List.nil_append]
  rfl
theorem tx_cmp {from_ w a : Nat} {r ww : List Nat} (hT : ∀ k, T k < 128) (hs : sz < 2001) (hw : w < 41) (ha : g 4848618092 w = .ref a) (hr : STR (HT g c0 s0 (bF T) sz tk tp tf ts t) a r) (hl : r.length = ww.length) (hf : from_ + ww.length < 2100) (hc : ∀ j, j < ww.length → CH T sz (from_ + j) = ww.getD j 0) :
    ∀ (m k : Nat), k + m = ww.length → ∃ k', am_G (d + 4) 58 38 [some (.ref 124537274373), some (.int (Int32.ofNat from_)), some (.int (Int32.ofNat ww.length)), some (.int (Int32.ofNat w)), some (.int 1), some (.int (Int32.ofNat k))] [] (HT g c0 s0 (bF T) sz tk tp tf ts t) = am_G (d + 4) 58 86 [some (.ref 124537274373), some (.int (Int32.ofNat from_)), some (.int (Int32.ofNat ww.length)), some (.int (Int32.ofNat w)), some (.int (if eqF m k r ww = true then 1 else 0)), some (.int k')] [] (HT g c0 s0 (bF T) sz tk tp tf ts t) := by
  intro m
  induction m with
  | zero =>
    intro k hk
    refine ⟨Int32.ofNat k, ?_⟩
    have r1 : (Int32.ofNat ww.length ≤ Int32.ofNat k) = True := (n_le (by omega) (by omega)).trans (eq_true (by omega))
    have f0 : eqF 0 k r ww = true := rfl
    rw [if_pos f0]
    simp (disch := (refine id ?_; first | with_reducible assumption | with_unfolding_all exact rfl | with_unfolding_all exact Nat.le_of_ble_eq_true rfl | (simp only [am_cat_nil, am_cat_int, am_cat_ref, am_cat_null, am_cat_long, Nat.reduceAdd, Nat.reduceLeDiff]; done) | omega | exact i_bnd2 (by simp only [am_n, Nat.reduceDiv, Nat.reduceMod, Nat.reduceMul, Nat.reduceAdd]; omega) | fail)) only [z58_0, z58_1, z58_2, z58_3, z58_4, z58_7, z58_10, z58_13, z58_14, z58_17, z58_18, z58_21, z58_24, z58_25, z58_28, z58_29, z58_32, z58_33, z58_35, z58_36, z58_38, z58_40, z58_41, z58_44, z58_46, z58_49, z58_50, z58_53, z58_54, z58_57, z58_59, z58_62, z58_63, z58_64, z58_66, z58_67, z58_70, z58_73, z58_74, z58_77, z58_78, z58_80, z58_83, HT_r0, HT_r1, HT_r2, HT_r3, HT_r4, HT_r5, HT_r6, HT_r7, HT_r8, HT_a0, HT_a1, HT_a2, HT_a3, HT_a4, HT_w6, HT_w7, HT_b0, HT_b1, HT_b2, HT_b3, HT_b4, r1, ↓reduceIte, i_10, i_00, am_then_some, am_tl1, am_tl0, i_addl, ad2, Nat.reduceAdd, tn_of, List.nil_append]
  | succ m ih =>
    intro k hk
    have r1 : (Int32.ofNat ww.length ≤ Int32.ofNat k) = False := (n_le (by omega) (by omega)).trans (eq_false (by omega))
    have q1 := wd_at (d := d + 3) (g := g) (c0 := c0) (s0 := s0) (T := T) (sz := sz) (tk := tk) (tp := tp) (tf := tf) (ts := ts) (t := t) hw ha
    have q2 := str_at (d := d) hr (j := k) (by omega)
    have k19 := hr.1
    have q3 := tx_at (d := d + 3) (g := g) (c0 := c0) (s0 := s0) (tk := tk) (tp := tp) (tf := tf) (ts := ts) (t := t) (k := from_ + k) hT hs (by omega)
    rw [hc k (by omega)] at q3
    have b1 := hr.2.2.2.2.1 k (by omega)
    have b2 := CH_lt (sz := sz) (k := from_ + k) hT
    rw [hc k (by omega)] at b2
    have q4 : (Int32.ofNat (r.getD k 0) = Int32.ofNat (ww.getD k 0)) = (r.getD k 0 = ww.getD k 0) := n_eqn _ _ (by omega) (by omega)
    by_cases e : r.getD k 0 = ww.getD k 0
    · have f : eqF (m + 1) k r ww = eqF m (k + 1) r ww := by show ((r.getD k 0 == ww.getD k 0) && _) = _; rw [e]; simp
      obtain ⟨k', ih'⟩ := ih (k + 1) (by omega)
      refine ⟨k', ?_⟩
      rw [f, ← ih', z58_38]
      simp (disch := (refine id ?_; first | with_reducible assumption | with_unfolding_all exact rfl | with_unfolding_all exact Nat.le_of_ble_eq_true rfl | (simp only [am_cat_nil, am_cat_int, am_cat_ref, am_cat_null, am_cat_long, Nat.reduceAdd, Nat.reduceLeDiff]; done) | omega | exact i_bnd2 (by simp only [am_n, Nat.reduceDiv, Nat.reduceMod, Nat.reduceMul, Nat.reduceAdd]; omega) | fail)) only [z58_0, z58_1, z58_2, z58_3, z58_4, z58_7, z58_10, z58_13, z58_14, z58_17, z58_18, z58_21, z58_24, z58_25, z58_28, z58_29, z58_32, z58_33, z58_35, z58_36, z58_40, z58_41, z58_44, z58_46, z58_49, z58_50, z58_53, z58_54, z58_57, z58_59, z58_62, z58_63, z58_64, z58_66, z58_67, z58_70, z58_73, z58_74, z58_77, z58_78, z58_80, z58_83, HT_r0, HT_r1, HT_r2, HT_r3, HT_r4, HT_r5, HT_r6, HT_r7, HT_r8, HT_a0, HT_a1, HT_a2, HT_a3, HT_a4, HT_w6, HT_w7, HT_b0, HT_b1, HT_b2, HT_b3, HT_b4, r1, q1, q2, q3, q4, e, n_add, ↓reduceIte, i_10, i_00, am_then_some, am_tl1, am_tl0, i_addl, ad2, Nat.reduceAdd, tn_of, List.nil_append]
    · have f : eqF (m + 1) k r ww = false := by show ((r.getD k 0 == ww.getD k 0) && _) = _; rw [beq_false_of_ne e]; rfl
      refine ⟨Int32.ofNat (k + 1), ?_⟩
      rw [f, if_neg (by decide), z58_38]
      by_cases y : k + 1 < ww.length
      · have r2 : (Int32.ofNat ww.length ≤ Int32.ofNat (k + 1)) = False := (n_le (by omega) (by omega)).trans (eq_false (by omega))
        simp (disch := (refine id ?_; first | with_reducible assumption | with_unfolding_all exact rfl | with_unfolding_all exact Nat.le_of_ble_eq_true rfl | (simp only [am_cat_nil, am_cat_int, am_cat_ref, am_cat_null, am_cat_long, Nat.reduceAdd, Nat.reduceLeDiff]; done) | omega | exact i_bnd2 (by simp only [am_n, Nat.reduceDiv, Nat.reduceMod, Nat.reduceMul, Nat.reduceAdd]; omega) | fail)) only [z58_0, z58_1, z58_2, z58_3, z58_4, z58_7, z58_10, z58_13, z58_14, z58_17, z58_18, z58_21, z58_24, z58_25, z58_28, z58_29, z58_32, z58_33, z58_35, z58_36, z58_38, z58_40, z58_41, z58_44, z58_46, z58_49, z58_50, z58_53, z58_54, z58_57, z58_59, z58_62, z58_63, z58_64, z58_66, z58_67, z58_70, z58_73, z58_74, z58_77, z58_78, z58_80, z58_83, HT_r0, HT_r1, HT_r2, HT_r3, HT_r4, HT_r5, HT_r6, HT_r7, HT_r8, HT_a0, HT_a1, HT_a2, HT_a3, HT_a4, HT_w6, HT_w7, HT_b0, HT_b1, HT_b2, HT_b3, HT_b4, r1, r2, q1, q2, q3, q4, e, n_add, ↓reduceIte, i_10, i_00, am_then_some, am_tl1, am_tl0, i_addl, ad2, Nat.reduceAdd, tn_of, List.nil_append]
      · have r2 : (Int32.ofNat ww.length ≤ Int32.ofNat (k + 1)) = True := (n_le (by omega) (by omega)).trans (eq_true (by omega))
        simp (disch := (refine id ?_; first | with_reducible assumption | with_unfolding_all exact rfl | with_unfolding_all exact Nat.le_of_ble_eq_true rfl | (simp only [am_cat_nil, am_cat_int, am_cat_ref, am_cat_null, am_cat_long, Nat.reduceAdd, Nat.reduceLeDiff]; done) | omega | exact i_bnd2 (by simp only [am_n, Nat.reduceDiv, Nat.reduceMod, Nat.reduceMul, Nat.reduceAdd]; omega) | fail)) only [z58_0, z58_1, z58_2, z58_3, z58_4, z58_7, z58_10, z58_13, z58_14, z58_17, z58_18, z58_21, z58_24, z58_25, z58_28, z58_29, z58_32, z58_33, z58_35, z58_36, z58_38, z58_40, z58_41, z58_44, z58_46, z58_49, z58_50, z58_53, z58_54, z58_57, z58_59, z58_62, z58_63, z58_64, z58_66, z58_67, z58_70, z58_73, z58_74, z58_77, z58_78, z58_80, z58_83, HT_r0, HT_r1, HT_r2, HT_r3, HT_r4, HT_r5, HT_r6, HT_r7, HT_r8, HT_a0, HT_a1, HT_a2, HT_a3, HT_a4, HT_w6, HT_w7, HT_b0, HT_b1, HT_b2, HT_b3, HT_b4, r1, r2, q1, q2, q3, q4, e, n_add, ↓reduceIte, i_10, i_00, am_then_some, am_tl1, am_tl0, i_addl, ad2, Nat.reduceAdd, tn_of, List.nil_append]
theorem tx_res {from_ : Nat} {ww : List Nat} (hT : ∀ k, T k < 128) (hs : sz < 2001) (h0 : 0 < ww.length) (hc0 : 286 ≤ c0) (hW : WRD g) (hf : from_ + ww.length < 2100) (hc : ∀ j, j < ww.length → CH T sz (from_ + j) = ww.getD j 0) :
    ∀ (m i : Nat) (x y : Option Value), i + m = 41 → am_G (d + 4) 58 2 [some (.ref 124537274373), some (.int (Int32.ofNat from_)), some (.int (Int32.ofNat ww.length)), some (.int (Int32.ofNat i)), x, y] [] (HT g c0 s0 (bF T) sz tk tp tf ts t) = some (some (.int (Int32.ofNat (resG m i ww))), HT g c0 s0 (bF T) sz tk tp tf ts t) := by
  intro m
  induction m with
  | zero =>
    intro i x y hi
    have q := wd_many (d := d + 3) (g := g) (c0 := c0) (s0 := s0) (T := T) (sz := sz) (tk := tk) (tp := tp) (tf := tf) (ts := ts) (t := t)
    have r1 : ((41 : Int32) ≤ Int32.ofNat i) = True := (n_gel i 41 (by omega) (by decide)).trans (eq_true (show ¬ i < 41 by omega))
    simp (disch := (refine id ?_; first | with_reducible assumption | with_unfolding_all exact rfl | with_unfolding_all exact Nat.le_of_ble_eq_true rfl | (simp only [am_cat_nil, am_cat_int, am_cat_ref, am_cat_null, am_cat_long, Nat.reduceAdd, Nat.reduceLeDiff]; done) | omega | exact i_bnd2 (by simp only [am_n, Nat.reduceDiv, Nat.reduceMod, Nat.reduceMul, Nat.reduceAdd]; omega) | fail)) only [z58_0, z58_1, z58_2, z58_3, z58_4, z58_7, z58_10, z58_14, z58_17, z58_18, z58_21, z58_24, z58_25, z58_28, z58_29, z58_32, z58_33, z58_35, z58_36, z58_38, z58_40, z58_41, z58_44, z58_46, z58_49, z58_50, z58_53, z58_54, z58_57, z58_59, z58_62, z58_63, z58_64, z58_66, z58_67, z58_70, z58_73, z58_74, z58_77, z58_78, z58_80, z58_83, z58_86, z58_88, z58_91, z58_92, z58_93, z58_94, z58_95, z58_98, z58_101, z58_103, HT_r0, HT_r1, HT_r2, HT_r3, HT_r4, HT_r5, HT_r6, HT_r7, HT_r8, HT_a0, HT_a1, HT_a2, HT_a3, HT_a4, HT_w6, HT_w7, HT_b0, HT_b1, HT_b2, HT_b3, HT_b4, q, r1, ↓reduceIte, i_10, i_00, am_then_some, am_tl1, am_tl0, i_addl, ad2, Nat.reduceAdd, tn_of, List.nil_append]
    rfl
  | succ m ih =>
    intro i x y hi
    have q := wd_many (d := d + 3) (g := g) (c0 := c0) (s0 := s0) (T := T) (sz := sz) (tk := tk) (tp := tp) (tf := tf) (ts := ts) (t := t)
    have r1 : ((41 : Int32) ≤ Int32.ofNat i) = False := (n_gel i 41 (by omega) (by decide)).trans (eq_false (show ¬ ¬ i < 41 by omega))
    obtain ⟨a, ha, hr0⟩ := hW i (by omega)
    have hr : STR (HT g c0 s0 (bF T) sz tk tp tf ts t) a (RWL.getD i []) := str_low hr0 hc0 (fun x k hx => HT_low hx)
    obtain ⟨r, hr_⟩ : ∃ r, r = RWL.getD i [] := ⟨_, rfl⟩
    rw [← hr_] at hr
    have q1 := wd_at (d := d + 3) (g := g) (c0 := c0) (s0 := s0) (T := T) (sz := sz) (tk := tk) (tp := tp) (tf := tf) (ts := ts) (t := t) (w := i) (by omega) ha
    have q2 := str_len (d := d + 2) hr
    have lr := hr.2.2.2.1
    have k19 := hr.1
    show _ = (some (some (Value.int (Int32.ofNat (if RWL.getD i [] = ww then i + 1 else resG m (i + 1) ww))), _) : Option am_R)
    rw [← hr_]
    by_cases n : r.length = ww.length
    · obtain ⟨k', e⟩ := tx_cmp (d := d) hT hs (w := i) (by omega) ha hr n hf hc ww.length 0 (by omega)
      have q4 : (Int32.ofNat r.length = Int32.ofNat ww.length) = True := eq_true (by rw [n])
      have e' : am_G (d + 4) 58 38 [some (.ref 124537274373), some (.int (Int32.ofNat from_)), some (.int (Int32.ofNat ww.length)), some (.int (Int32.ofNat i)), some (.int 1), some (.int 0)] [] (HT g c0 s0 (bF T) sz tk tp tf ts t) = _ := e
      rw [← n] at e'
      by_cases y : r = ww
      · rw [if_pos ((eqF_eq n).mpr y)] at e'
        rw [if_pos y, z58_2]
        rw [n] at e'
        simp (disch := (refine id ?_; first | with_reducible assumption | with_unfolding_all exact rfl | with_unfolding_all exact Nat.le_of_ble_eq_true rfl | (simp only [am_cat_nil, am_cat_int, am_cat_ref, am_cat_null, am_cat_long, Nat.reduceAdd, Nat.reduceLeDiff]; done) | omega | exact i_bnd2 (by simp only [am_n, Nat.reduceDiv, Nat.reduceMod, Nat.reduceMul, Nat.reduceAdd]; omega) | fail)) only [z58_0, z58_1, z58_3, z58_4, z58_7, z58_10, z58_13, z58_14, z58_17, z58_18, z58_21, z58_24, z58_25, z58_28, z58_29, z58_32, z58_33, z58_35, z58_36, z58_40, z58_41, z58_44, z58_46, z58_49, z58_50, z58_53, z58_54, z58_57, z58_59, z58_62, z58_63, z58_64, z58_66, z58_67, z58_70, z58_73, z58_74, z58_77, z58_78, z58_80, z58_83, z58_86, z58_88, z58_91, z58_92, z58_93, z58_94, z58_95, z58_98, z58_101, z58_103, HT_r0, HT_r1, HT_r2, HT_r3, HT_r4, HT_r5, HT_r6, HT_r7, HT_r8, HT_a0, HT_a1, HT_a2, HT_a3, HT_a4, HT_w6, HT_w7, HT_b0, HT_b1, HT_b2, HT_b3, HT_b4, q, q1, q2, q4, r1, e', ↓reduceIte, i_10, i_00, am_then_some, am_tl1, am_tl0, i_addl, ad2, Nat.reduceAdd, tn_of, List.nil_append]
      · rw [if_neg (fun z => y ((eqF_eq n).mp z))] at e'
        rw [n] at e'
        rw [if_neg y, ← ih (i + 1) (some (.int 0)) (some (.int k')) (by omega), z58_2]
        simp (disch := (refine id ?_; first | with_reducible assumption | with_unfolding_all exact rfl | with_unfolding_all exact Nat.le_of_ble_eq_true rfl | (simp only [am_cat_nil, am_cat_int, am_cat_ref, am_cat_null, am_cat_long, Nat.reduceAdd, Nat.reduceLeDiff]; done) | omega | exact i_bnd2 (by simp only [am_n, Nat.reduceDiv, Nat.reduceMod, Nat.reduceMul, Nat.reduceAdd]; omega) | fail)) only [z58_0, z58_1, z58_3, z58_4, z58_7, z58_10, z58_13, z58_14, z58_17, z58_18, z58_21, z58_24, z58_25, z58_28, z58_29, z58_32, z58_33, z58_35, z58_36, z58_40, z58_41, z58_44, z58_46, z58_49, z58_50, z58_53, z58_54, z58_57, z58_59, z58_62, z58_63, z58_64, z58_66, z58_67, z58_70, z58_73, z58_74, z58_77, z58_78, z58_80, z58_83, z58_86, z58_88, z58_91, z58_92, z58_93, z58_94, z58_95, z58_98, z58_101, z58_103, HT_r0, HT_r1, HT_r2, HT_r3, HT_r4, HT_r5, HT_r6, HT_r7, HT_r8, HT_a0, HT_a1, HT_a2, HT_a3, HT_a4, HT_w6, HT_w7, HT_b0, HT_b1, HT_b2, HT_b3, HT_b4, q, q1, q2, q4, r1, e', ↓reduceIte, i_10, i_00, am_then_some, am_tl1, am_tl0, i_addl, ad2, Nat.reduceAdd, tn_of, List.nil_append]
    · rw [if_neg (fun z => n (by rw [z]))]
      have q4 : (Int32.ofNat r.length = Int32.ofNat ww.length) = False := (n_eqn _ _ (by omega) (by omega)).trans (eq_false n)
      have r2 : (Int32.ofNat ww.length ≤ 0) = False := (n_lel ww.length 0 (by omega) (by decide)).trans (eq_false (show ¬ ¬ 0 < ww.length by omega))
      rw [← ih (i + 1) (some (.int 0)) (some (.int 0)) (by omega), z58_2]
      simp (disch := (refine id ?_; first | with_reducible assumption | with_unfolding_all exact rfl | with_unfolding_all exact Nat.le_of_ble_eq_true rfl | (simp only [am_cat_nil, am_cat_int, am_cat_ref, am_cat_null, am_cat_long, Nat.reduceAdd, Nat.reduceLeDiff]; done) | omega | exact i_bnd2 (by simp only [am_n, Nat.reduceDiv, Nat.reduceMod, Nat.reduceMul, Nat.reduceAdd]; omega) | fail)) only [z58_0, z58_1, z58_3, z58_4, z58_7, z58_10, z58_13, z58_14, z58_17, z58_18, z58_21, z58_24, z58_25, z58_28, z58_29, z58_32, z58_33, z58_35, z58_36, z58_38, z58_40, z58_41, z58_44, z58_46, z58_49, z58_50, z58_53, z58_54, z58_57, z58_59, z58_62, z58_63, z58_64, z58_66, z58_67, z58_70, z58_73, z58_74, z58_77, z58_78, z58_80, z58_83, z58_86, z58_88, z58_91, z58_92, z58_93, z58_94, z58_95, z58_98, z58_101, z58_103, HT_r0, HT_r1, HT_r2, HT_r3, HT_r4, HT_r5, HT_r6, HT_r7, HT_r8, HT_a0, HT_a1, HT_a2, HT_a3, HT_a4, HT_w6, HT_w7, HT_b0, HT_b1, HT_b2, HT_b3, HT_b4, q, q1, q2, q4, r1, r2, ↓reduceIte, i_10, i_00, am_then_some, am_tl1, am_tl0, i_addl, ad2, Nat.reduceAdd, tn_of, List.nil_append]
theorem tx_reserved {from_ : Nat} {ww : List Nat} (hT : ∀ k, T k < 128) (hs : sz < 2001) (h0 : 0 < ww.length) (hc0 : 286 ≤ c0) (hW : WRD g) (hf : from_ + ww.length < 2100) (hc : ∀ j, j < ww.length → CH T sz (from_ + j) = ww.getD j 0) :
    am_M (d + 5) 58 [.ref 124537274373, .int (Int32.ofNat from_), .int (Int32.ofNat ww.length)] (HT g c0 s0 (bF T) sz tk tp tf ts t) = some (some (.int (Int32.ofNat (resG 41 0 ww))), HT g c0 s0 (bF T) sz tk tp tf ts t) := by
  rw [e58, z58_0, z58_1]
  exact tx_res hT hs h0 hc0 hW hf hc 41 0 none none rfl
theorem tx_wl {from_ : Nat} {b : Int64} {kd : Option Value} (hT : ∀ k, T k < 128) (hs : sz < 2001) : ∀ (w : List Nat) (z : Nat) (a : Int64), (∀ j, j < w.length → CH T sz (z + j) = w.getD j 0 ∧ (cLet (w.getD j 0) ∨ cDig (w.getD j 0))) → ¬ cLet (CH T sz (z + w.length)) → ¬ cDig (CH T sz (z + w.length)) → from_ ≤ z → z + w.length ≤ from_ + 10 → from_ < 2001 →
    am_G (d + 2) 57 7 [some (.ref 124537274373), some (.int (Int32.ofNat from_)), some (.int (Int32.ofNat z)), some (.long a), some (.retAddr 0), some (.long b), some (.retAddr 0), kd] [] (HT g c0 s0 (bF T) sz tk tp tf ts t) = am_G (d + 2) 57 76 [some (.ref 124537274373), some (.int (Int32.ofNat from_)), some (.int (Int32.ofNat (z + w.length))), some (.long (wF a w)), some (.retAddr 0), some (.long b), some (.retAddr 0), kd] [] (HT g c0 s0 (bF T) sz tk tp tf ts t) := by
  intro w
  induction w with
  | nil =>
    intro z a _ h2 h3 h4 h5 h6
    have q := tx_at (d := d + 1) (g := g) (c0 := c0) (s0 := s0) (T := T) (sz := sz) (tk := tk) (tp := tp) (tf := tf) (ts := ts) (t := t) (k := z) hT hs (by omega)
    have hc := CH_lt (sz := sz) (k := z) hT
    have q1 := tx_let (d := d + 1) (h := HT g c0 s0 (bF T) sz tk tp tf ts t) hc
    have q2 := tx_dig (d := d + 1) (h := HT g c0 s0 (bF T) sz tk tp tf ts t) hc
    rw [if_neg (show ¬ cLet (CH T sz z) from h2)] at q1
    rw [if_neg (show ¬ cDig (CH T sz z) from h3)] at q2
    simp (disch := (refine id ?_; first | with_reducible assumption | with_unfolding_all exact rfl | with_unfolding_all exact Nat.le_of_ble_eq_true rfl | (simp only [am_cat_nil, am_cat_int, am_cat_ref, am_cat_null, am_cat_long, Nat.reduceAdd, Nat.reduceLeDiff]; done) | omega | exact i_bnd2 (by simp only [am_n, Nat.reduceDiv, Nat.reduceMod, Nat.reduceMul, Nat.reduceAdd]; omega) | fail)) only [z57_0, z57_1, z57_2, z57_3, z57_4, z57_5, z57_7, z57_8, z57_9, z57_12, z57_15, z57_18, z57_19, z57_20, z57_23, z57_26, z57_29, z57_30, z57_31, z57_32, z57_34, z57_37, z57_38, z57_40, z57_41, z57_42, z57_43, z57_46, z57_49, z57_50, z57_51, z57_54, z57_56, z57_58, z57_59, z57_60, z57_61, z57_64, z57_67, z57_68, z57_70, z57_73, HT_r0, HT_r1, HT_r2, HT_r3, HT_r4, HT_r5, HT_r6, HT_r7, HT_r8, HT_a0, HT_a1, HT_a2, HT_a3, HT_a4, HT_w6, HT_w7, HT_b0, HT_b1, HT_b2, HT_b3, HT_b4, q, q1, q2, ↓reduceIte, i_10, i_00, am_then_some, am_tl1, am_tl0, i_addl, ad2, Nat.reduceAdd, tn_of, List.nil_append]
    rfl
  | cons c w ih =>
    intro z a h1 h2 h3 h4 h5 h6
    rw [List.length_cons] at h2 h3 h5
    obtain ⟨e1, e2⟩ := h1 0 (by rw [List.length_cons]; omega)
    have e1' : CH T sz z = c := e1
    have e2' : cLet c ∨ cDig c := e2
    have q := tx_at (d := d + 1) (g := g) (c0 := c0) (s0 := s0) (T := T) (sz := sz) (tk := tk) (tp := tp) (tf := tf) (ts := ts) (t := t) (k := z) hT hs (by omega)
    have hc := CH_lt (sz := sz) (k := z) hT
    rw [e1'] at q hc
    have q1 := tx_let (d := d + 1) (h := HT g c0 s0 (bF T) sz tk tp tf ts t) hc
    have q2 := tx_dig (d := d + 1) (h := HT g c0 s0 (bF T) sz tk tp tf ts t) hc
    have q3 := tx_code (d := d) (h := HT g c0 s0 (bF T) sz tk tp tf ts t) hc e2'
    have r1 : ((10 : Int32) ≤ Int32.ofNat (z - from_)) = False := (n_gel (z - from_) 10 (by omega) (by decide)).trans (eq_false (show ¬ ¬ z - from_ < 10 by omega))
    have ih' := ih (z + 1) (wF a [c]) (fun j hj => by rw [show z + 1 + j = z + (j + 1) by omega]; exact h1 (j + 1) (by rw [List.length_cons]; omega)) (by rw [show z + 1 + w.length = z + (w.length + 1) by omega]; exact h2) (by rw [show z + 1 + w.length = z + (w.length + 1) by omega]; exact h3) (by omega) (by omega) h6
    rw [show z + 1 + w.length = z + (c :: w).length by rw [List.length_cons]; omega] at ih'
    have f : wF (wF a [c]) w = wF a (c :: w) := rfl
    have f2 : a <<< 6 ||| cd c = wF a [c] := rfl
    rw [f] at ih'
    rw [← ih', z57_7]
    by_cases y : cLet c
    · rw [if_pos y] at q1
      simp (disch := (refine id ?_; first | with_reducible assumption | with_unfolding_all exact rfl | with_unfolding_all exact Nat.le_of_ble_eq_true rfl | (simp only [am_cat_nil, am_cat_int, am_cat_ref, am_cat_null, am_cat_long, Nat.reduceAdd, Nat.reduceLeDiff]; done) | omega | exact i_bnd2 (by simp only [am_n, Nat.reduceDiv, Nat.reduceMod, Nat.reduceMul, Nat.reduceAdd]; omega) | fail)) only [z57_0, z57_1, z57_2, z57_3, z57_4, z57_5, z57_8, z57_9, z57_12, z57_15, z57_18, z57_19, z57_20, z57_23, z57_26, z57_29, z57_30, z57_31, z57_32, z57_34, z57_37, z57_38, z57_40, z57_41, z57_42, z57_43, z57_46, z57_49, z57_50, z57_51, z57_54, z57_56, z57_58, z57_59, z57_60, z57_61, z57_64, z57_67, z57_68, z57_70, z57_73, HT_r0, HT_r1, HT_r2, HT_r3, HT_r4, HT_r5, HT_r6, HT_r7, HT_r8, HT_a0, HT_a1, HT_a2, HT_a3, HT_a4, HT_w6, HT_w7, HT_b0, HT_b1, HT_b2, HT_b3, HT_b4, q, q1, q2, q3, r1, n_subn, sh_6, f2, ↓reduceIte, i_10, i_00, am_then_some, am_tl1, am_tl0, i_addl, ad2, Nat.reduceAdd, tn_of, List.nil_append]
    · have y2 : cDig c := e2'.resolve_left y
      rw [if_neg y] at q1
      rw [if_pos y2] at q2
      simp (disch := (refine id ?_; first | with_reducible assumption | with_unfolding_all exact rfl | with_unfolding_all exact Nat.le_of_ble_eq_true rfl | (simp only [am_cat_nil, am_cat_int, am_cat_ref, am_cat_null, am_cat_long, Nat.reduceAdd, Nat.reduceLeDiff]; done) | omega | exact i_bnd2 (by simp only [am_n, Nat.reduceDiv, Nat.reduceMod, Nat.reduceMul, Nat.reduceAdd]; omega) | fail)) only [z57_0, z57_1, z57_2, z57_3, z57_4, z57_5, z57_8, z57_9, z57_12, z57_15, z57_18, z57_19, z57_20, z57_23, z57_26, z57_29, z57_30, z57_31, z57_32, z57_34, z57_37, z57_38, z57_40, z57_41, z57_42, z57_43, z57_46, z57_49, z57_50, z57_51, z57_54, z57_56, z57_58, z57_59, z57_60, z57_61, z57_64, z57_67, z57_68, z57_70, z57_73, HT_r0, HT_r1, HT_r2, HT_r3, HT_r4, HT_r5, HT_r6, HT_r7, HT_r8, HT_a0, HT_a1, HT_a2, HT_a3, HT_a4, HT_w6, HT_w7, HT_b0, HT_b1, HT_b2, HT_b3, HT_b4, q, q1, q2, q3, r1, n_subn, sh_6, f2, ↓reduceIte, i_10, i_00, am_then_some, am_tl1, am_tl0, i_addl, ad2, Nat.reduceAdd, tn_of, List.nil_append]
theorem resG_lt {w : List Nat} : ∀ (m i : Nat), i + m ≤ 41 → resG m i w < 101 := by
  intro m
  induction m with
  | zero => intro i _; show 100 < 101; omega
  | succ m ih =>
    intro i hi
    show (if RWL.getD i [] = w then i + 1 else resG m (i + 1) w) < 101
    split
    · omega
    · exact ih _ (by omega)
theorem tx_word {from_ : Nat} {w : List Nat} (hT : ∀ k, T k < 128) (hs : sz < 2001) (h0 : 0 < w.length) (h10 : w.length ≤ 10) (hf : from_ < 2001) (ht : t < 2001) (hc0 : 286 ≤ c0) (hW : WRD g) (h1 : ∀ j, j < w.length → CH T sz (from_ + j) = w.getD j 0 ∧ (cLet (w.getD j 0) ∨ cDig (w.getD j 0))) (h2 : ¬ cLet (CH T sz (from_ + w.length))) (h3 : ¬ cDig (CH T sz (from_ + w.length))) :
    am_M (d + 7) 57 [.ref 124537274373, .int (Int32.ofNat from_)] (HT g c0 s0 (bF T) sz tk tp tf ts t) = some (some (.int (Int32.ofNat (from_ + w.length))), HT g c0 s0 (bF T) sz (up tk t (Int32.ofNat (resG 41 0 w))) (up tp t (Int32.ofNat from_)) (up tf t (wF 0 w)) (up ts t 0) (t + 1)) := by
  have q := tx_wl (d := d + 4) (from_ := from_) (g := g) (c0 := c0) (s0 := s0) (tk := tk) (tp := tp) (tf := tf) (ts := ts) (t := t) (b := 0) (kd := none) hT hs w from_ 0 h1 h2 h3 (Nat.le_refl _) (by omega) hf
  have q2 := tx_reserved (d := d + 1) (from_ := from_) (ww := w) (g := g) (c0 := c0) (s0 := s0) (tk := tk) (tp := tp) (tf := tf) (ts := ts) (t := t) hT hs h0 hc0 hW (by omega) (fun j hj => (h1 j hj).1)
  have lt := resG_lt (w := w) 41 0 (by omega)
  have q3 := tx_add (d := d + 5) (g := g) (c0 := c0) (s0 := s0) (T := T) (sz := sz) (tk := tk) (tp := tp) (tf := tf) (ts := ts) (t := t) (kd := Int32.ofNat (resG 41 0 w)) (p := from_) (a := wF 0 w) (b := 0) ht (by omega) (n_i16 (by omega))
  have s1 : Int32.ofNat (from_ + w.length) - Int32.ofNat from_ = Int32.ofNat w.length := by rw [n_subn _ _ (by omega)]; congr 1; omega
  have r1 : (Int32.ofNat w.length ≤ 16) = True := (n_lel w.length 16 (by omega) (by decide)).trans (eq_true (show ¬ 16 < w.length by omega))
  rw [e57, z57_0, z57_1, z57_2, z57_3, z57_4, z57_5]
  refine Eq.trans q ?_
  simp (disch := (refine id ?_; first | with_reducible assumption | with_unfolding_all exact rfl | with_unfolding_all exact Nat.le_of_ble_eq_true rfl | (simp only [am_cat_nil, am_cat_int, am_cat_ref, am_cat_null, am_cat_long, Nat.reduceAdd, Nat.reduceLeDiff]; done) | omega | exact i_bnd2 (by simp only [am_n, Nat.reduceDiv, Nat.reduceMod, Nat.reduceMul, Nat.reduceAdd]; omega) | fail)) only [z57_76, z57_77, z57_78, z57_79, z57_81, z57_84, z57_85, z57_89, z57_90, z57_91, z57_92, z57_93, z57_94, z57_95, z57_98, z57_100, z57_101, z57_103, z57_104, z57_105, z57_107, z57_110, z57_111, HT_r0, HT_r1, HT_r2, HT_r3, HT_r4, HT_r5, HT_r6, HT_r7, HT_r8, HT_a0, HT_a1, HT_a2, HT_a3, HT_a4, HT_w6, HT_w7, HT_b0, HT_b1, HT_b2, HT_b3, HT_b4, q2, q3, s1, r1, ↓reduceIte, i_10, i_00, am_then_some, am_tl1, am_tl0, i_addl, ad2, Nat.reduceAdd, tn_of, List.nil_append]
theorem tx_nl {from_ : Nat} {pl : Option Value} (hT : ∀ k, T k < 128) (hs : sz < 2001) : ∀ (w : List Nat) (z : Nat), (∀ j, j < w.length → CH T sz (z + j) = w.getD j 0 ∧ cDig (w.getD j 0)) → ¬ cHigh (CH T sz (z + w.length)) → z + w.length < 2100 →
    am_G (d + 2) 59 4 [some (.ref 124537274373), some (.int (Int32.ofNat from_)), some (.int (Int32.ofNat z)), some (.int 1)] [] (HT g c0 s0 (bF T) sz tk tp tf ts t) = am_G (d + 2) 59 42 [some (.ref 124537274373), some (.int (Int32.ofNat from_)), some (.int (Int32.ofNat (z + w.length))), some (.int 1)] [] (HT g c0 s0 (bF T) sz tk tp tf ts t) := by
  intro w
  induction w with
  | nil =>
    intro z _ h2 h5
    have q := tx_at (d := d + 1) (g := g) (c0 := c0) (s0 := s0) (T := T) (sz := sz) (tk := tk) (tp := tp) (tf := tf) (ts := ts) (t := t) (k := z) hT hs (by omega)
    have hc := CH_lt (sz := sz) (k := z) hT
    have q1 := tx_high (d := d) (h := HT g c0 s0 (bF T) sz tk tp tf ts t) hc
    rw [if_neg (show ¬ cHigh (CH T sz z) from h2)] at q1
    simp (disch := (refine id ?_; first | with_reducible assumption | with_unfolding_all exact rfl | with_unfolding_all exact Nat.le_of_ble_eq_true rfl | (simp only [am_cat_nil, am_cat_int, am_cat_ref, am_cat_null, am_cat_long, Nat.reduceAdd, Nat.reduceLeDiff]; done) | omega | exact i_bnd2 (by simp only [am_n, Nat.reduceDiv, Nat.reduceMod, Nat.reduceMul, Nat.reduceAdd]; omega) | fail)) only [z59_0, z59_1, z59_2, z59_3, z59_4, z59_5, z59_6, z59_9, z59_12, z59_15, z59_16, z59_19, z59_20, z59_21, z59_24, z59_27, z59_30, z59_31, z59_34, z59_35, z59_36, z59_39, HT_r0, HT_r1, HT_r2, HT_r3, HT_r4, HT_r5, HT_r6, HT_r7, HT_r8, HT_a0, HT_a1, HT_a2, HT_a3, HT_a4, HT_w6, HT_w7, HT_b0, HT_b1, HT_b2, HT_b3, HT_b4, q, q1, ↓reduceIte, i_10, i_00, am_then_some, am_tl1, am_tl0, i_addl, ad2, Nat.reduceAdd, tn_of, List.nil_append]
    rfl
  | cons c w ih =>
    intro z h1 h2 h5
    rw [List.length_cons] at h2 h5
    obtain ⟨e1, e2⟩ := h1 0 (by rw [List.length_cons]; omega)
    have e1' : CH T sz z = c := e1
    have e2' : cDig c := e2
    have q := tx_at (d := d + 1) (g := g) (c0 := c0) (s0 := s0) (T := T) (sz := sz) (tk := tk) (tp := tp) (tf := tf) (ts := ts) (t := t) (k := z) hT hs (by omega)
    have hc := CH_lt (sz := sz) (k := z) hT
    rw [e1'] at q hc
    have q1 := tx_high (d := d) (h := HT g c0 s0 (bF T) sz tk tp tf ts t) hc
    have q2 := tx_dig (d := d + 1) (h := HT g c0 s0 (bF T) sz tk tp tf ts t) hc
    rw [if_pos (show cHigh c from Or.inl e2')] at q1
    rw [if_pos e2'] at q2
    have ih' := ih (z + 1) (fun j hj => by rw [show z + 1 + j = z + (j + 1) by omega]; exact h1 (j + 1) (by rw [List.length_cons]; omega)) (by rw [show z + 1 + w.length = z + (w.length + 1) by omega]; exact h2) (by omega)
    rw [show z + 1 + w.length = z + (c :: w).length by rw [List.length_cons]; omega] at ih'
    rw [← ih', z59_4]
    simp (disch := (refine id ?_; first | with_reducible assumption | with_unfolding_all exact rfl | with_unfolding_all exact Nat.le_of_ble_eq_true rfl | (simp only [am_cat_nil, am_cat_int, am_cat_ref, am_cat_null, am_cat_long, Nat.reduceAdd, Nat.reduceLeDiff]; done) | omega | exact i_bnd2 (by simp only [am_n, Nat.reduceDiv, Nat.reduceMod, Nat.reduceMul, Nat.reduceAdd]; omega) | fail)) only [z59_0, z59_1, z59_2, z59_3, z59_5, z59_6, z59_9, z59_12, z59_15, z59_16, z59_19, z59_20, z59_21, z59_24, z59_27, z59_30, z59_31, z59_34, z59_35, z59_36, z59_39, HT_r0, HT_r1, HT_r2, HT_r3, HT_r4, HT_r5, HT_r6, HT_r7, HT_r8, HT_a0, HT_a1, HT_a2, HT_a3, HT_a4, HT_w6, HT_w7, HT_b0, HT_b1, HT_b2, HT_b3, HT_b4, q, q1, q2, ↓reduceIte, i_10, i_00, am_then_some, am_tl1, am_tl0, i_addl, ad2, Nat.reduceAdd, tn_of, List.nil_append]
theorem v_step {v : Nat} {c : Nat} (hc : c < 128) (hd : 48 ≤ c) (hv : v < 65536) : (10 : Int32).toInt64 * Int64.ofNat v + (Int32.ofNat (c - 48)).toInt64 = Int64.ofNat (10 * v + (c - 48)) := by
  rw [n_i64 (by omega), show (10 : Int32).toInt64 = Int64.ofNat 10 from rfl, ← Int64.ofNat_mul, ← Int64.ofNat_add]
theorem vF_le {w : List Nat} : ∀ (v : Nat), v ≤ vF v w := by
  induction w with
  | nil => intro v; exact Nat.le_refl _
  | cons c w ih => intro v; exact Nat.le_trans (by show v ≤ 10 * v + (c - 48); omega) (ih (10 * v + (c - 48)))
theorem tx_vl {from_ to be : Nat} {l9 : Option Value} (hT : ∀ k, T k < 128) (hs : sz < 2001) (hto : to < 2100) : ∀ (w : List Nat) (k v : Nat) (l9 : Option Value), k + w.length = to → (∀ j, j < w.length → CH T sz (k + j) = w.getD j 0 ∧ cDig (w.getD j 0)) → vF v w < 65536 →
    ∃ l9', am_G (d + 2) 61 6 [some (.ref 124537274373), some (.int 101), some (.int (Int32.ofNat from_)), some (.int (Int32.ofNat to)), some (.int 10), some (.int (Int32.ofNat be)), some (.long (Int64.ofNat v)), some (.retAddr 0), some (.int (Int32.ofNat k)), l9] [] (HT g c0 s0 (bF T) sz tk tp tf ts t) = am_G (d + 2) 61 90 [some (.ref 124537274373), some (.int 101), some (.int (Int32.ofNat from_)), some (.int (Int32.ofNat to)), some (.int 10), some (.int (Int32.ofNat be)), some (.long (Int64.ofNat (vF v w))), some (.retAddr 0), some (.int (Int32.ofNat to)), l9'] [] (HT g c0 s0 (bF T) sz tk tp tf ts t) := by
  intro w
  induction w with
  | nil =>
    intro k v l9 hk _ hv
    have hk' : k = to := hk
    subst hk'
    have r : (Int32.ofNat k ≤ Int32.ofNat k) = True := eq_true (Int32.le_refl _)
    refine ⟨l9, ?_⟩
    show _ = am_G (d + 2) 61 90 [_, _, _, _, _, _, some (.long (Int64.ofNat v)), _, _, _] [] _
    simp (disch := (refine id ?_; first | with_reducible assumption | with_unfolding_all exact rfl | with_unfolding_all exact Nat.le_of_ble_eq_true rfl | (simp only [am_cat_nil, am_cat_int, am_cat_ref, am_cat_null, am_cat_long, Nat.reduceAdd, Nat.reduceLeDiff]; done) | omega | exact i_bnd2 (by simp only [am_n, Nat.reduceDiv, Nat.reduceMod, Nat.reduceMul, Nat.reduceAdd]; omega) | fail)) only [z61_0, z61_1, z61_3, z61_4, z61_6, z61_8, z61_9, z61_12, z61_13, z61_15, z61_18, z61_21, z61_24, z61_25, z61_27, z61_30, z61_32, z61_33, z61_36, z61_37, z61_39, z61_42, z61_44, z61_45, z61_47, z61_48, z61_50, z61_52, z61_54, z61_57, z61_59, z61_62, z61_63, z61_66, z61_67, z61_71, z61_72, z61_74, z61_75, z61_77, z61_78, z61_80, z61_81, z61_82, z61_84, z61_87, HT_r0, HT_r1, HT_r2, HT_r3, HT_r4, HT_r5, HT_r6, HT_r7, HT_r8, HT_a0, HT_a1, HT_a2, HT_a3, HT_a4, HT_w6, HT_w7, HT_b0, HT_b1, HT_b2, HT_b3, HT_b4, r, ↓reduceIte, i_10, i_00, am_then_some, am_tl1, am_tl0, i_addl, ad2, Nat.reduceAdd, tn_of, List.nil_append]
  | cons c w ih =>
    intro k v l9 hk h1 hv
    rw [List.length_cons] at hk
    obtain ⟨e1, e2⟩ := h1 0 (by rw [List.length_cons]; omega)
    have e1' : CH T sz k = c := e1
    have e2' : cDig c := e2
    have q := tx_at (d := d + 1) (g := g) (c0 := c0) (s0 := s0) (T := T) (sz := sz) (tk := tk) (tp := tp) (tf := tf) (ts := ts) (t := t) (k := k) hT hs (by omega)
    have hc := CH_lt (sz := sz) (k := k) hT
    rw [e1'] at q hc
    have q2 := tx_dig (d := d + 1) (h := HT g c0 s0 (bF T) sz tk tp tf ts t) hc
    rw [if_pos e2'] at q2
    have vv : v < 65536 := Nat.lt_of_le_of_lt (vF_le v) hv
    have r : (Int32.ofNat to ≤ Int32.ofNat k) = False := (n_le (by omega) (by omega)).trans (eq_false (by omega))
    have r2 : ((10 : Int32) ≤ Int32.ofNat (c - 48)) = False := (n_gel (c - 48) 10 (by omega) (by decide)).trans (eq_false (show ¬ ¬ c - 48 < 10 by omega))
    have r3 := lgc_le vv
    have vs := v_step hc e2'.1 vv
    obtain ⟨l9', ih'⟩ := ih (k + 1) (10 * v + (c - 48)) (some (.int (Int32.ofNat (c - 48)))) (by omega) (fun j hj => by rw [show k + 1 + j = k + (j + 1) by omega]; exact h1 (j + 1) (by rw [List.length_cons]; omega)) hv
    have f : vF (10 * v + (c - 48)) w = vF v (c :: w) := rfl
    rw [f] at ih'
    refine ⟨l9', ?_⟩
    rw [← ih', z61_6]
    simp (disch := (refine id ?_; first | with_reducible assumption | with_unfolding_all exact rfl | with_unfolding_all exact Nat.le_of_ble_eq_true rfl | (simp only [am_cat_nil, am_cat_int, am_cat_ref, am_cat_null, am_cat_long, Nat.reduceAdd, Nat.reduceLeDiff]; done) | omega | exact i_bnd2 (by simp only [am_n, Nat.reduceDiv, Nat.reduceMod, Nat.reduceMul, Nat.reduceAdd]; omega) | fail)) only [z61_0, z61_1, z61_3, z61_4, z61_8, z61_9, z61_12, z61_13, z61_15, z61_18, z61_21, z61_24, z61_25, z61_27, z61_30, z61_32, z61_33, z61_36, z61_37, z61_39, z61_42, z61_44, z61_45, z61_47, z61_48, z61_50, z61_52, z61_54, z61_57, z61_59, z61_62, z61_63, z61_66, z61_67, z61_71, z61_72, z61_74, z61_75, z61_77, z61_78, z61_80, z61_81, z61_82, z61_84, z61_87, HT_r0, HT_r1, HT_r2, HT_r3, HT_r4, HT_r5, HT_r6, HT_r7, HT_r8, HT_a0, HT_a1, HT_a2, HT_a3, HT_a4, HT_w6, HT_w7, HT_b0, HT_b1, HT_b2, HT_b3, HT_b4, q, q2, r, r2, r3, vs, n_subl, ↓reduceIte, i_10, i_00, am_then_some, am_tl1, am_tl0, i_addl, ad2, Nat.reduceAdd, tn_of, List.nil_append]
theorem tx_value {from_ to : Nat} {w : List Nat} (hT : ∀ k, T k < 128) (hs : sz < 2001) (hto : to < 2100) (hf : from_ < 2001) (ht : t < 2001) (hk : from_ + w.length = to) (h1 : ∀ j, j < w.length → CH T sz (from_ + j) = w.getD j 0 ∧ cDig (w.getD j 0)) (hv : vF 0 w < 65536) :
    am_M (d + 3) 61 [.ref 124537274373, .int 101, .int (Int32.ofNat from_), .int (Int32.ofNat to), .int 10, .int (Int32.ofNat to)] (HT g c0 s0 (bF T) sz tk tp tf ts t) = some (some (.int (Int32.ofNat to)), HT g c0 s0 (bF T) sz (up tk t 101) (up tp t (Int32.ofNat from_)) (up tf t (Int64.ofNat (vF 0 w))) (up ts t 0) (t + 1)) := by
  obtain ⟨l9', q⟩ := tx_vl (d := d) (g := g) (c0 := c0) (s0 := s0) (tk := tk) (tp := tp) (tf := tf) (ts := ts) (t := t) (from_ := from_) (to := to) (be := to) (l9 := none) hT hs hto w from_ 0 none hk h1 hv
  have r3 := lgc_le hv
  have q3 := tx_add (d := d + 1) (g := g) (c0 := c0) (s0 := s0) (T := T) (sz := sz) (tk := tk) (tp := tp) (tf := tf) (ts := ts) (t := t) (kd := 101) (p := from_) (a := Int64.ofNat (vF 0 w)) (b := 0) ht (by omega) (by decide)
  rw [e61, z61_0, z61_1, z61_3, z61_4]
  refine Eq.trans q ?_
  simp (disch := (refine id ?_; first | with_reducible assumption | with_unfolding_all exact rfl | with_unfolding_all exact Nat.le_of_ble_eq_true rfl | (simp only [am_cat_nil, am_cat_int, am_cat_ref, am_cat_null, am_cat_long, Nat.reduceAdd, Nat.reduceLeDiff]; done) | omega | exact i_bnd2 (by simp only [am_n, Nat.reduceDiv, Nat.reduceMod, Nat.reduceMul, Nat.reduceAdd]; omega) | fail)) only [z61_90, z61_92, z61_93, z61_95, z61_98, z61_101, z61_104, z61_107, z61_108, z61_111, z61_112, z61_116, z61_117, z61_118, z61_119, z61_120, z61_122, z61_123, z61_126, z61_128, HT_r0, HT_r1, HT_r2, HT_r3, HT_r4, HT_r5, HT_r6, HT_r7, HT_r8, HT_a0, HT_a1, HT_a2, HT_a3, HT_a4, HT_w6, HT_w7, HT_b0, HT_b1, HT_b2, HT_b3, HT_b4, q3, r3, i_eqll, Nat.reduceEqDiff, ↓reduceIte, i_10, i_00, am_then_some, am_tl1, am_tl0, i_addl, ad2, Nat.reduceAdd, tn_of, List.nil_append]
theorem tx_number {from_ : Nat} {w : List Nat} (hT : ∀ k, T k < 128) (hs : sz < 2001) (h0 : 0 < w.length) (hf : from_ + w.length < 2001) (ht : t < 2001) (h1 : ∀ j, j < w.length → CH T sz (from_ + j) = w.getD j 0 ∧ cDig (w.getD j 0)) (h2 : ¬ cHigh (CH T sz (from_ + w.length))) (h3 : CH T sz (from_ + w.length) ≠ 72) (hv : vF 0 w < 65536) :
    am_M (d + 4) 59 [.ref 124537274373, .int (Int32.ofNat from_)] (HT g c0 s0 (bF T) sz tk tp tf ts t) = some (some (.int (Int32.ofNat (from_ + w.length))), HT g c0 s0 (bF T) sz (up tk t 101) (up tp t (Int32.ofNat from_)) (up tf t (Int64.ofNat (vF 0 w))) (up ts t 0) (t + 1)) := by
  have q := tx_nl (d := d + 1) (from_ := from_) (g := g) (c0 := c0) (s0 := s0) (tk := tk) (tp := tp) (tf := tf) (ts := ts) (t := t) (pl := none) hT hs w from_ h1 h2 (by omega)
  have q1 := tx_at (d := d + 2) (g := g) (c0 := c0) (s0 := s0) (T := T) (sz := sz) (tk := tk) (tp := tp) (tf := tf) (ts := ts) (t := t) (k := from_ + w.length) hT hs (by omega)
  have hc := CH_lt (sz := sz) (k := from_ + w.length) hT
  have r1 : (Int32.ofNat (CH T sz (from_ + w.length)) = 72) = False := (n_eql _ 72 (by omega) (by decide)).trans (eq_false h3)
  have q2 := tx_value (d := d) (from_ := from_) (to := from_ + w.length) (w := w) (g := g) (c0 := c0) (s0 := s0) (tk := tk) (tp := tp) (tf := tf) (ts := ts) (t := t) hT hs (by omega) (by omega) ht rfl h1 hv
  rw [e59, z59_0, z59_1, z59_2, z59_3]
  refine Eq.trans q ?_
  simp (disch := (refine id ?_; first | with_reducible assumption | with_unfolding_all exact rfl | with_unfolding_all exact Nat.le_of_ble_eq_true rfl | (simp only [am_cat_nil, am_cat_int, am_cat_ref, am_cat_null, am_cat_long, Nat.reduceAdd, Nat.reduceLeDiff]; done) | omega | exact i_bnd2 (by simp only [am_n, Nat.reduceDiv, Nat.reduceMod, Nat.reduceMul, Nat.reduceAdd]; omega) | fail)) only [z59_42, z59_43, z59_44, z59_47, z59_49, z59_52, z59_53, z59_55, z59_56, z59_57, z59_59, z59_60, z59_61, z59_62, z59_65, z59_66, z59_67, z59_70, z59_71, z59_73, z59_74, z59_75, z59_77, z59_78, z59_81, z59_82, z59_83, z59_84, z59_85, z59_86, z59_87, z59_90, z59_92, z59_95, z59_97, z59_100, z59_102, z59_103, z59_104, z59_105, z59_106, z59_107, z59_108, z59_109, z59_110, z59_113, z59_115, z59_118, z59_119, z59_120, z59_121, z59_122, z59_125, z59_127, z59_130, z59_132, z59_135, z59_136, z59_137, z59_140, HT_r0, HT_r1, HT_r2, HT_r3, HT_r4, HT_r5, HT_r6, HT_r7, HT_r8, HT_a0, HT_a1, HT_a2, HT_a3, HT_a4, HT_w6, HT_w7, HT_b0, HT_b1, HT_b2, HT_b3, HT_b4, q1, q2, r1, ↓reduceIte, i_10, i_00, am_then_some, am_tl1, am_tl0, i_addl, ad2, Nat.reduceAdd, tn_of, List.nil_append]
theorem sg_at {k : Nat} (hc0 : 286 ≤ c0) (hG : SGN g) (hk : k < 20) : am_M (d + 4) 279 [.ref 1442840595, .int (Int32.ofNat k)] (HT g c0 s0 (bF T) sz tk tp tf ts t) = some (some (.int (Int32.ofNat (SGL.getD k 0))), HT g c0 s0 (bF T) sz tk tp tf ts t) :=
  str_at (str_low hG hc0 (fun x k hx => HT_low hx)) hk
theorem sg_loop (hc0 : 286 ≤ c0) (hG : SGN g) {c : Nat} (hc : c < 128) : ∀ (m k : Nat), k + m = 20 → am_G (d + 4) 63 2 [some (.int (Int32.ofNat c)), some (.int (Int32.ofNat k))] [] (HT g c0 s0 (bF T) sz tk tp tf ts t) = some (some (.int (sgF m k c)), HT g c0 s0 (bF T) sz tk tp tf ts t) := by
  have ql := str_len (d := d + 2) (str_low (h := HT g c0 s0 (bF T) sz tk tp tf ts t) hG hc0 (fun x k hx => HT_low hx))
  have ql' : am_M (d + 4) 277 [.ref 1442840595] (HT g c0 s0 (bF T) sz tk tp tf ts t) = some (some (.int 20), HT g c0 s0 (bF T) sz tk tp tf ts t) := ql
  intro m
  induction m with
  | zero =>
    intro k hk
    have r1 : ((20 : Int32) ≤ Int32.ofNat k) = True := (n_gel k 20 (by omega) (by decide)).trans (eq_true (show ¬ k < 20 by omega))
    simp (disch := (refine id ?_; first | with_reducible assumption | with_unfolding_all exact rfl | with_unfolding_all exact Nat.le_of_ble_eq_true rfl | (simp only [am_cat_nil, am_cat_int, am_cat_ref, am_cat_null, am_cat_long, Nat.reduceAdd, Nat.reduceLeDiff]; done) | omega | exact i_bnd2 (by simp only [am_n, Nat.reduceDiv, Nat.reduceMod, Nat.reduceMul, Nat.reduceAdd]; omega) | fail)) only [z63_0, z63_1, z63_2, z63_3, z63_5, z63_8, z63_11, z63_13, z63_14, z63_17, z63_18, z63_21, z63_23, z63_24, z63_25, z63_26, z63_29, z63_32, z63_33, HT_r0, HT_r1, HT_r2, HT_r3, HT_r4, HT_r5, HT_r6, HT_r7, HT_r8, HT_a0, HT_a1, HT_a2, HT_a3, HT_a4, HT_w6, HT_w7, HT_b0, HT_b1, HT_b2, HT_b3, HT_b4, ql', r1, ↓reduceIte, i_10, i_00, am_then_some, am_tl1, am_tl0, i_addl, ad2, Nat.reduceAdd, tn_of, List.nil_append]
    rfl
  | succ m ih =>
    intro k hk
    have r1 : ((20 : Int32) ≤ Int32.ofNat k) = False := (n_gel k 20 (by omega) (by decide)).trans (eq_false (show ¬ ¬ k < 20 by omega))
    have q := sg_at (d := d) (g := g) (c0 := c0) (s0 := s0) (T := T) (sz := sz) (tk := tk) (tp := tp) (tf := tf) (ts := ts) (t := t) (k := k) hc0 hG (by omega)
    have b : SGL.getD k 0 < 128 := by
      have := (hG.2.2.2.2.1 k (show k < 20 by omega))
      exact this
    have q4 : (Int32.ofNat (SGL.getD k 0) = Int32.ofNat c) = (SGL.getD k 0 = c) := n_eqn _ _ (by omega) (by omega)
    show _ = (some (some (Value.int (if SGL.getD k 0 = c then Int32.ofNat (k + 110) else sgF m (k + 1) c)), _) : Option am_R)
    by_cases e : SGL.getD k 0 = c
    · rw [if_pos e]
      have e110 : (110 : Int32) + Int32.ofNat k = Int32.ofNat (k + 110) := by rw [Int32.add_comm]; exact i_addl k 110
      simp (disch := (refine id ?_; first | with_reducible assumption | with_unfolding_all exact rfl | with_unfolding_all exact Nat.le_of_ble_eq_true rfl | (simp only [am_cat_nil, am_cat_int, am_cat_ref, am_cat_null, am_cat_long, Nat.reduceAdd, Nat.reduceLeDiff]; done) | omega | exact i_bnd2 (by simp only [am_n, Nat.reduceDiv, Nat.reduceMod, Nat.reduceMul, Nat.reduceAdd]; omega) | fail)) only [z63_0, z63_1, z63_2, z63_3, z63_5, z63_8, z63_11, z63_13, z63_14, z63_17, z63_18, z63_21, z63_23, z63_24, z63_25, z63_26, z63_29, z63_32, z63_33, HT_r0, HT_r1, HT_r2, HT_r3, HT_r4, HT_r5, HT_r6, HT_r7, HT_r8, HT_a0, HT_a1, HT_a2, HT_a3, HT_a4, HT_w6, HT_w7, HT_b0, HT_b1, HT_b2, HT_b3, HT_b4, ql', r1, q, q4, e, e110, ↓reduceIte, i_10, i_00, am_then_some, am_tl1, am_tl0, i_addl, ad2, Nat.reduceAdd, tn_of, List.nil_append]
    · rw [if_neg e, ← ih (k + 1) (by omega), z63_2]
      simp (disch := (refine id ?_; first | with_reducible assumption | with_unfolding_all exact rfl | with_unfolding_all exact Nat.le_of_ble_eq_true rfl | (simp only [am_cat_nil, am_cat_int, am_cat_ref, am_cat_null, am_cat_long, Nat.reduceAdd, Nat.reduceLeDiff]; done) | omega | exact i_bnd2 (by simp only [am_n, Nat.reduceDiv, Nat.reduceMod, Nat.reduceMul, Nat.reduceAdd]; omega) | fail)) only [z63_0, z63_1, z63_3, z63_5, z63_8, z63_11, z63_13, z63_14, z63_17, z63_18, z63_21, z63_23, z63_24, z63_25, z63_26, z63_29, z63_32, z63_33, HT_r0, HT_r1, HT_r2, HT_r3, HT_r4, HT_r5, HT_r6, HT_r7, HT_r8, HT_a0, HT_a1, HT_a2, HT_a3, HT_a4, HT_w6, HT_w7, HT_b0, HT_b1, HT_b2, HT_b3, HT_b4, ql', r1, q, q4, e, ↓reduceIte, i_10, i_00, am_then_some, am_tl1, am_tl0, i_addl, ad2, Nat.reduceAdd, tn_of, List.nil_append]
theorem tx_sgn (hc0 : 286 ≤ c0) (hG : SGN g) {c : Nat} (hc : c < 128) : am_M (d + 5) 63 [.int (Int32.ofNat c)] (HT g c0 s0 (bF T) sz tk tp tf ts t) = some (some (.int (sgF 20 0 c)), HT g c0 s0 (bF T) sz tk tp tf ts t) := by
  rw [e63, z63_0, z63_1]
  exact sg_loop hc0 hG hc 20 0 rfl
theorem tx_sign1 {from_ c e : Nat} (hT : ∀ k, T k < 128) (hs : sz < 2001) (hf : from_ < 2001) (ht : t < 2001) (hc0 : 286 ≤ c0) (hG : SGN g) (h1 : CH T sz from_ = c) (h2 : CH T sz (from_ + 1) = e) (n1 : ¬ (c = 58 ∧ e = 61)) (n2 : ¬ (c = 60 ∧ e = 61)) (n3 : ¬ (c = 62 ∧ e = 61)) (n4 : ¬ (c = 60 ∧ e = 62)) (n5 : ¬ (c = 46 ∧ e = 46)) (n6 : c ≠ 38) (n7 : c ≠ 126) {kd : Int32} (hk : sgF 20 0 c = kd) (hk2 : kd ≠ -1) (hk3 : kd.toInt16.toInt32 = kd) :
    am_M (d + 6) 62 [.ref 124537274373, .int (Int32.ofNat from_)] (HT g c0 s0 (bF T) sz tk tp tf ts t) = some (some (.int (Int32.ofNat (from_ + 1))), HT g c0 s0 (bF T) sz (up tk t kd) (up tp t (Int32.ofNat from_)) (up tf t 0) (up ts t 0) (t + 1)) := by
  have q := tx_at (d := d + 4) (g := g) (c0 := c0) (s0 := s0) (T := T) (sz := sz) (tk := tk) (tp := tp) (tf := tf) (ts := ts) (t := t) (k := from_) hT hs (by omega)
  have q1 := tx_at (d := d + 4) (g := g) (c0 := c0) (s0 := s0) (T := T) (sz := sz) (tk := tk) (tp := tp) (tf := tf) (ts := ts) (t := t) (k := from_ + 1) hT hs (by omega)
  have b := CH_lt (sz := sz) (k := from_) hT
  have b1 := CH_lt (sz := sz) (k := from_ + 1) hT
  rw [h1] at q b
  rw [h2] at q1 b1
  have q2 := tx_sgn (d := d) (g := g) (c0 := c0) (s0 := s0) (T := T) (sz := sz) (tk := tk) (tp := tp) (tf := tf) (ts := ts) (t := t) hc0 hG b
  rw [hk] at q2
  have q3 := tx_add (d := d + 4) (g := g) (c0 := c0) (s0 := s0) (T := T) (sz := sz) (tk := tk) (tp := tp) (tf := tf) (ts := ts) (t := t) (kd := kd) (p := from_) (a := 0) (b := 0) ht (by omega) hk3
  have k1 : (kd = -1) = False := eq_false hk2
  have f : ∀ k : Nat, k < 128 → (Int32.ofNat c = Int32.ofNat k) = (c = k) := fun k hk => n_eqn c k (by omega) (by omega)
  have f2 : ∀ k : Nat, k < 128 → (Int32.ofNat e = Int32.ofNat k) = (e = k) := fun k hk => n_eqn e k (by omega) (by omega)
  have c38 : (Int32.ofNat c = 38) = False := (f 38 (by omega)).trans (eq_false n6)
  have c126 : (Int32.ofNat c = 126) = False := (f 126 (by omega)).trans (eq_false n7)
  have l0 : ((0 : Int32) ≤ 0) = True := eq_true (by decide)
  rw [e62 (p1 := Int32.ofNat from_)]
  by_cases a58 : c = 58
  · have c58 : (Int32.ofNat c = 58) = True := (f 58 (by omega)).trans (eq_true a58)
    have c60 : (Int32.ofNat c = 60) = False := (f 60 (by omega)).trans (eq_false (by omega))
    have c62 : (Int32.ofNat c = 62) = False := (f 62 (by omega)).trans (eq_false (by omega))
    have c46 : (Int32.ofNat c = 46) = False := (f 46 (by omega)).trans (eq_false (by omega))
    have x61 : (Int32.ofNat e = 61) = False := (f2 61 (by omega)).trans (eq_false (fun z => n1 ⟨a58, z⟩))
    simp (disch := (refine id ?_; first | with_reducible assumption | with_unfolding_all exact rfl | with_unfolding_all exact Nat.le_of_ble_eq_true rfl | (simp only [am_cat_nil, am_cat_int, am_cat_ref, am_cat_null, am_cat_long, Nat.reduceAdd, Nat.reduceLeDiff]; done) | omega | exact i_bnd2 (by simp only [am_n, Nat.reduceDiv, Nat.reduceMod, Nat.reduceMul, Nat.reduceAdd]; omega) | fail)) only [z62_0, z62_1, z62_2, z62_5, z62_6, z62_7, z62_8, z62_9, z62_10, z62_13, z62_14, z62_15, z62_17, z62_20, z62_21, z62_23, z62_26, z62_29, z62_32, z62_33, z62_35, z62_38, z62_39, z62_41, z62_44, z62_47, z62_50, z62_51, z62_53, z62_56, z62_57, z62_59, z62_62, z62_65, z62_68, z62_69, z62_71, z62_74, z62_75, z62_77, z62_80, z62_82, z62_85, z62_86, z62_88, z62_91, z62_92, z62_94, z62_97, z62_100, z62_103, z62_104, z62_106, z62_108, z62_111, z62_112, z62_114, z62_115, z62_116, z62_117, z62_120, z62_121, z62_122, z62_123, z62_124, z62_125, z62_127, z62_130, z62_131, z62_134, z62_135, z62_137, z62_140, z62_142, z62_145, z62_146, z62_149, z62_151, z62_152, z62_154, z62_155, z62_156, z62_157, z62_160, z62_162, z62_163, z62_166, z62_167, z62_170, z62_171, z62_172, z62_173, HT_r0, HT_r1, HT_r2, HT_r3, HT_r4, HT_r5, HT_r6, HT_r7, HT_r8, HT_a0, HT_a1, HT_a2, HT_a3, HT_a4, HT_w6, HT_w7, HT_b0, HT_b1, HT_b2, HT_b3, HT_b4, q, q1, q2, q3, k1, c38, c126, c58, c60, c62, c46, l0, ↓reduceIte, i_10, i_00, am_then_some, am_tl1, am_tl0, i_addl, ad2, Nat.reduceAdd, tn_of, List.nil_append, x61]
  · by_cases a60 : c = 60
    · have c58 : (Int32.ofNat c = 58) = False := (f 58 (by omega)).trans (eq_false (by omega))
      have c60 : (Int32.ofNat c = 60) = True := (f 60 (by omega)).trans (eq_true a60)
      have c62 : (Int32.ofNat c = 62) = False := (f 62 (by omega)).trans (eq_false (by omega))
      have c46 : (Int32.ofNat c = 46) = False := (f 46 (by omega)).trans (eq_false (by omega))
      have x61 : (Int32.ofNat e = 61) = False := (f2 61 (by omega)).trans (eq_false (fun z => n2 ⟨a60, z⟩))
      have x62 : (Int32.ofNat e = 62) = False := (f2 62 (by omega)).trans (eq_false (fun z => n4 ⟨a60, z⟩))
      simp (disch := (refine id ?_; first | with_reducible assumption | with_unfolding_all exact rfl | with_unfolding_all exact Nat.le_of_ble_eq_true rfl | (simp only [am_cat_nil, am_cat_int, am_cat_ref, am_cat_null, am_cat_long, Nat.reduceAdd, Nat.reduceLeDiff]; done) | omega | exact i_bnd2 (by simp only [am_n, Nat.reduceDiv, Nat.reduceMod, Nat.reduceMul, Nat.reduceAdd]; omega) | fail)) only [z62_0, z62_1, z62_2, z62_5, z62_6, z62_7, z62_8, z62_9, z62_10, z62_13, z62_14, z62_15, z62_17, z62_20, z62_21, z62_23, z62_26, z62_29, z62_32, z62_33, z62_35, z62_38, z62_39, z62_41, z62_44, z62_47, z62_50, z62_51, z62_53, z62_56, z62_57, z62_59, z62_62, z62_65, z62_68, z62_69, z62_71, z62_74, z62_75, z62_77, z62_80, z62_82, z62_85, z62_86, z62_88, z62_91, z62_92, z62_94, z62_97, z62_100, z62_103, z62_104, z62_106, z62_108, z62_111, z62_112, z62_114, z62_115, z62_116, z62_117, z62_120, z62_121, z62_122, z62_123, z62_124, z62_125, z62_127, z62_130, z62_131, z62_134, z62_135, z62_137, z62_140, z62_142, z62_145, z62_146, z62_149, z62_151, z62_152, z62_154, z62_155, z62_156, z62_157, z62_160, z62_162, z62_163, z62_166, z62_167, z62_170, z62_171, z62_172, z62_173, HT_r0, HT_r1, HT_r2, HT_r3, HT_r4, HT_r5, HT_r6, HT_r7, HT_r8, HT_a0, HT_a1, HT_a2, HT_a3, HT_a4, HT_w6, HT_w7, HT_b0, HT_b1, HT_b2, HT_b3, HT_b4, q, q1, q2, q3, k1, c38, c126, c58, c60, c62, c46, l0, ↓reduceIte, i_10, i_00, am_then_some, am_tl1, am_tl0, i_addl, ad2, Nat.reduceAdd, tn_of, List.nil_append, x61, x62]
    · by_cases a62 : c = 62
      · have c58 : (Int32.ofNat c = 58) = False := (f 58 (by omega)).trans (eq_false (by omega))
        have c60 : (Int32.ofNat c = 60) = False := (f 60 (by omega)).trans (eq_false (by omega))
        have c62 : (Int32.ofNat c = 62) = True := (f 62 (by omega)).trans (eq_true a62)
        have c46 : (Int32.ofNat c = 46) = False := (f 46 (by omega)).trans (eq_false (by omega))
        have x61 : (Int32.ofNat e = 61) = False := (f2 61 (by omega)).trans (eq_false (fun z => n3 ⟨a62, z⟩))
        simp (disch := (refine id ?_; first | with_reducible assumption | with_unfolding_all exact rfl | with_unfolding_all exact Nat.le_of_ble_eq_true rfl | (simp only [am_cat_nil, am_cat_int, am_cat_ref, am_cat_null, am_cat_long, Nat.reduceAdd, Nat.reduceLeDiff]; done) | omega | exact i_bnd2 (by simp only [am_n, Nat.reduceDiv, Nat.reduceMod, Nat.reduceMul, Nat.reduceAdd]; omega) | fail)) only [z62_0, z62_1, z62_2, z62_5, z62_6, z62_7, z62_8, z62_9, z62_10, z62_13, z62_14, z62_15, z62_17, z62_20, z62_21, z62_23, z62_26, z62_29, z62_32, z62_33, z62_35, z62_38, z62_39, z62_41, z62_44, z62_47, z62_50, z62_51, z62_53, z62_56, z62_57, z62_59, z62_62, z62_65, z62_68, z62_69, z62_71, z62_74, z62_75, z62_77, z62_80, z62_82, z62_85, z62_86, z62_88, z62_91, z62_92, z62_94, z62_97, z62_100, z62_103, z62_104, z62_106, z62_108, z62_111, z62_112, z62_114, z62_115, z62_116, z62_117, z62_120, z62_121, z62_122, z62_123, z62_124, z62_125, z62_127, z62_130, z62_131, z62_134, z62_135, z62_137, z62_140, z62_142, z62_145, z62_146, z62_149, z62_151, z62_152, z62_154, z62_155, z62_156, z62_157, z62_160, z62_162, z62_163, z62_166, z62_167, z62_170, z62_171, z62_172, z62_173, HT_r0, HT_r1, HT_r2, HT_r3, HT_r4, HT_r5, HT_r6, HT_r7, HT_r8, HT_a0, HT_a1, HT_a2, HT_a3, HT_a4, HT_w6, HT_w7, HT_b0, HT_b1, HT_b2, HT_b3, HT_b4, q, q1, q2, q3, k1, c38, c126, c58, c60, c62, c46, l0, ↓reduceIte, i_10, i_00, am_then_some, am_tl1, am_tl0, i_addl, ad2, Nat.reduceAdd, tn_of, List.nil_append, x61]
      · by_cases a46 : c = 46
        · have c58 : (Int32.ofNat c = 58) = False := (f 58 (by omega)).trans (eq_false (by omega))
          have c60 : (Int32.ofNat c = 60) = False := (f 60 (by omega)).trans (eq_false (by omega))
          have c62 : (Int32.ofNat c = 62) = False := (f 62 (by omega)).trans (eq_false (by omega))
          have c46 : (Int32.ofNat c = 46) = True := (f 46 (by omega)).trans (eq_true a46)
          have x46 : (Int32.ofNat e = 46) = False := (f2 46 (by omega)).trans (eq_false (fun z => n5 ⟨a46, z⟩))
          simp (disch := (refine id ?_; first | with_reducible assumption | with_unfolding_all exact rfl | with_unfolding_all exact Nat.le_of_ble_eq_true rfl | (simp only [am_cat_nil, am_cat_int, am_cat_ref, am_cat_null, am_cat_long, Nat.reduceAdd, Nat.reduceLeDiff]; done) | omega | exact i_bnd2 (by simp only [am_n, Nat.reduceDiv, Nat.reduceMod, Nat.reduceMul, Nat.reduceAdd]; omega) | fail)) only [z62_0, z62_1, z62_2, z62_5, z62_6, z62_7, z62_8, z62_9, z62_10, z62_13, z62_14, z62_15, z62_17, z62_20, z62_21, z62_23, z62_26, z62_29, z62_32, z62_33, z62_35, z62_38, z62_39, z62_41, z62_44, z62_47, z62_50, z62_51, z62_53, z62_56, z62_57, z62_59, z62_62, z62_65, z62_68, z62_69, z62_71, z62_74, z62_75, z62_77, z62_80, z62_82, z62_85, z62_86, z62_88, z62_91, z62_92, z62_94, z62_97, z62_100, z62_103, z62_104, z62_106, z62_108, z62_111, z62_112, z62_114, z62_115, z62_116, z62_117, z62_120, z62_121, z62_122, z62_123, z62_124, z62_125, z62_127, z62_130, z62_131, z62_134, z62_135, z62_137, z62_140, z62_142, z62_145, z62_146, z62_149, z62_151, z62_152, z62_154, z62_155, z62_156, z62_157, z62_160, z62_162, z62_163, z62_166, z62_167, z62_170, z62_171, z62_172, z62_173, HT_r0, HT_r1, HT_r2, HT_r3, HT_r4, HT_r5, HT_r6, HT_r7, HT_r8, HT_a0, HT_a1, HT_a2, HT_a3, HT_a4, HT_w6, HT_w7, HT_b0, HT_b1, HT_b2, HT_b3, HT_b4, q, q1, q2, q3, k1, c38, c126, c58, c60, c62, c46, l0, ↓reduceIte, i_10, i_00, am_then_some, am_tl1, am_tl0, i_addl, ad2, Nat.reduceAdd, tn_of, List.nil_append, x46]
        · have c58 : (Int32.ofNat c = 58) = False := (f 58 (by omega)).trans (eq_false (by omega))
          have c60 : (Int32.ofNat c = 60) = False := (f 60 (by omega)).trans (eq_false (by omega))
          have c62 : (Int32.ofNat c = 62) = False := (f 62 (by omega)).trans (eq_false (by omega))
          have c46 : (Int32.ofNat c = 46) = False := (f 46 (by omega)).trans (eq_false (by omega))
          simp (disch := (refine id ?_; first | with_reducible assumption | with_unfolding_all exact rfl | with_unfolding_all exact Nat.le_of_ble_eq_true rfl | (simp only [am_cat_nil, am_cat_int, am_cat_ref, am_cat_null, am_cat_long, Nat.reduceAdd, Nat.reduceLeDiff]; done) | omega | exact i_bnd2 (by simp only [am_n, Nat.reduceDiv, Nat.reduceMod, Nat.reduceMul, Nat.reduceAdd]; omega) | fail)) only [z62_0, z62_1, z62_2, z62_5, z62_6, z62_7, z62_8, z62_9, z62_10, z62_13, z62_14, z62_15, z62_17, z62_20, z62_21, z62_23, z62_26, z62_29, z62_32, z62_33, z62_35, z62_38, z62_39, z62_41, z62_44, z62_47, z62_50, z62_51, z62_53, z62_56, z62_57, z62_59, z62_62, z62_65, z62_68, z62_69, z62_71, z62_74, z62_75, z62_77, z62_80, z62_82, z62_85, z62_86, z62_88, z62_91, z62_92, z62_94, z62_97, z62_100, z62_103, z62_104, z62_106, z62_108, z62_111, z62_112, z62_114, z62_115, z62_116, z62_117, z62_120, z62_121, z62_122, z62_123, z62_124, z62_125, z62_127, z62_130, z62_131, z62_134, z62_135, z62_137, z62_140, z62_142, z62_145, z62_146, z62_149, z62_151, z62_152, z62_154, z62_155, z62_156, z62_157, z62_160, z62_162, z62_163, z62_166, z62_167, z62_170, z62_171, z62_172, z62_173, HT_r0, HT_r1, HT_r2, HT_r3, HT_r4, HT_r5, HT_r6, HT_r7, HT_r8, HT_a0, HT_a1, HT_a2, HT_a3, HT_a4, HT_w6, HT_w7, HT_b0, HT_b1, HT_b2, HT_b3, HT_b4, q, q1, q2, q3, k1, c38, c126, c58, c60, c62, c46, l0, ↓reduceIte, i_10, i_00, am_then_some, am_tl1, am_tl0, i_addl, ad2, Nat.reduceAdd, tn_of, List.nil_append]
theorem tx_bec {from_ : Nat} (hT : ∀ k, T k < 128) (hs : sz < 2001) (hf : from_ < 2001) (ht : t < 2001) (h1 : CH T sz from_ = 58) (h2 : CH T sz (from_ + 1) = 61) :
    am_M (d + 6) 62 [.ref 124537274373, .int (Int32.ofNat from_)] (HT g c0 s0 (bF T) sz tk tp tf ts t) = some (some (.int (Int32.ofNat (from_ + 2))), HT g c0 s0 (bF T) sz (up tk t 130) (up tp t (Int32.ofNat from_)) (up tf t 0) (up ts t 0) (t + 1)) := by
  have q := tx_at (d := d + 4) (g := g) (c0 := c0) (s0 := s0) (T := T) (sz := sz) (tk := tk) (tp := tp) (tf := tf) (ts := ts) (t := t) (k := from_) hT hs (by omega)
  have q1 := tx_at (d := d + 4) (g := g) (c0 := c0) (s0 := s0) (T := T) (sz := sz) (tk := tk) (tp := tp) (tf := tf) (ts := ts) (t := t) (k := from_ + 1) hT hs (by omega)
  rw [h1] at q
  rw [h2] at q1
  have q3 := tx_add (d := d + 4) (g := g) (c0 := c0) (s0 := s0) (T := T) (sz := sz) (tk := tk) (tp := tp) (tf := tf) (ts := ts) (t := t) (kd := 130) (p := from_) (a := 0) (b := 0) ht (by omega) (by decide)
  have q' : am_M (d + 5) 51 [.ref 124537274373, .int (Int32.ofNat from_)] (HT g c0 s0 (bF T) sz tk tp tf ts t) = some (some (.int 58), HT g c0 s0 (bF T) sz tk tp tf ts t) := q
  have q1' : am_M (d + 5) 51 [.ref 124537274373, .int (Int32.ofNat (from_ + 1))] (HT g c0 s0 (bF T) sz tk tp tf ts t) = some (some (.int 61), HT g c0 s0 (bF T) sz tk tp tf ts t) := q1
  have l0 : ((130 : Int32) ≤ 0) = False := eq_false (by decide)
  rw [e62 (p1 := Int32.ofNat from_)]
  simp (disch := (refine id ?_; first | with_reducible assumption | with_unfolding_all exact rfl | with_unfolding_all exact Nat.le_of_ble_eq_true rfl | (simp only [am_cat_nil, am_cat_int, am_cat_ref, am_cat_null, am_cat_long, Nat.reduceAdd, Nat.reduceLeDiff]; done) | omega | exact i_bnd2 (by simp only [am_n, Nat.reduceDiv, Nat.reduceMod, Nat.reduceMul, Nat.reduceAdd]; omega) | fail)) only [z62_0, z62_1, z62_2, z62_5, z62_6, z62_7, z62_8, z62_9, z62_10, z62_13, z62_14, z62_15, z62_17, z62_20, z62_21, z62_23, z62_26, z62_29, z62_32, z62_33, z62_35, z62_38, z62_39, z62_41, z62_44, z62_47, z62_50, z62_51, z62_53, z62_56, z62_57, z62_59, z62_62, z62_65, z62_68, z62_69, z62_71, z62_74, z62_75, z62_77, z62_80, z62_82, z62_85, z62_86, z62_88, z62_91, z62_92, z62_94, z62_97, z62_100, z62_103, z62_104, z62_106, z62_108, z62_111, z62_112, z62_114, z62_115, z62_116, z62_117, z62_120, z62_121, z62_122, z62_123, z62_124, z62_125, z62_127, z62_130, z62_131, z62_134, z62_135, z62_137, z62_140, z62_142, z62_145, z62_146, z62_149, z62_151, z62_152, z62_154, z62_155, z62_156, z62_157, z62_160, z62_162, z62_163, z62_166, z62_167, z62_170, z62_171, z62_172, z62_173, HT_r0, HT_r1, HT_r2, HT_r3, HT_r4, HT_r5, HT_r6, HT_r7, HT_r8, HT_a0, HT_a1, HT_a2, HT_a3, HT_a4, HT_w6, HT_w7, HT_b0, HT_b1, HT_b2, HT_b3, HT_b4, q', q1', q3, l0, i_eqll, Nat.reduceEqDiff, ↓reduceIte, i_10, i_00, am_then_some, am_tl1, am_tl0, i_addl, ad2, Nat.reduceAdd, tn_of, List.nil_append]
theorem tx_upto {from_ : Nat} (hT : ∀ k, T k < 128) (hs : sz < 2001) (hf : from_ < 2001) (ht : t < 2001) (h1 : CH T sz from_ = 46) (h2 : CH T sz (from_ + 1) = 46) :
    am_M (d + 6) 62 [.ref 124537274373, .int (Int32.ofNat from_)] (HT g c0 s0 (bF T) sz tk tp tf ts t) = some (some (.int (Int32.ofNat (from_ + 2))), HT g c0 s0 (bF T) sz (up tk t 133) (up tp t (Int32.ofNat from_)) (up tf t 0) (up ts t 0) (t + 1)) := by
  have q := tx_at (d := d + 4) (g := g) (c0 := c0) (s0 := s0) (T := T) (sz := sz) (tk := tk) (tp := tp) (tf := tf) (ts := ts) (t := t) (k := from_) hT hs (by omega)
  have q1 := tx_at (d := d + 4) (g := g) (c0 := c0) (s0 := s0) (T := T) (sz := sz) (tk := tk) (tp := tp) (tf := tf) (ts := ts) (t := t) (k := from_ + 1) hT hs (by omega)
  rw [h1] at q
  rw [h2] at q1
  have q3 := tx_add (d := d + 4) (g := g) (c0 := c0) (s0 := s0) (T := T) (sz := sz) (tk := tk) (tp := tp) (tf := tf) (ts := ts) (t := t) (kd := 133) (p := from_) (a := 0) (b := 0) ht (by omega) (by decide)
  have q' : am_M (d + 5) 51 [.ref 124537274373, .int (Int32.ofNat from_)] (HT g c0 s0 (bF T) sz tk tp tf ts t) = some (some (.int 46), HT g c0 s0 (bF T) sz tk tp tf ts t) := q
  have q1' : am_M (d + 5) 51 [.ref 124537274373, .int (Int32.ofNat (from_ + 1))] (HT g c0 s0 (bF T) sz tk tp tf ts t) = some (some (.int 46), HT g c0 s0 (bF T) sz tk tp tf ts t) := q1
  have l0 : ((133 : Int32) ≤ 0) = False := eq_false (by decide)
  rw [e62 (p1 := Int32.ofNat from_)]
  simp (disch := (refine id ?_; first | with_reducible assumption | with_unfolding_all exact rfl | with_unfolding_all exact Nat.le_of_ble_eq_true rfl | (simp only [am_cat_nil, am_cat_int, am_cat_ref, am_cat_null, am_cat_long, Nat.reduceAdd, Nat.reduceLeDiff]; done) | omega | exact i_bnd2 (by simp only [am_n, Nat.reduceDiv, Nat.reduceMod, Nat.reduceMul, Nat.reduceAdd]; omega) | fail)) only [z62_0, z62_1, z62_2, z62_5, z62_6, z62_7, z62_8, z62_9, z62_10, z62_13, z62_14, z62_15, z62_17, z62_20, z62_21, z62_23, z62_26, z62_29, z62_32, z62_33, z62_35, z62_38, z62_39, z62_41, z62_44, z62_47, z62_50, z62_51, z62_53, z62_56, z62_57, z62_59, z62_62, z62_65, z62_68, z62_69, z62_71, z62_74, z62_75, z62_77, z62_80, z62_82, z62_85, z62_86, z62_88, z62_91, z62_92, z62_94, z62_97, z62_100, z62_103, z62_104, z62_106, z62_108, z62_111, z62_112, z62_114, z62_115, z62_116, z62_117, z62_120, z62_121, z62_122, z62_123, z62_124, z62_125, z62_127, z62_130, z62_131, z62_134, z62_135, z62_137, z62_140, z62_142, z62_145, z62_146, z62_149, z62_151, z62_152, z62_154, z62_155, z62_156, z62_157, z62_160, z62_162, z62_163, z62_166, z62_167, z62_170, z62_171, z62_172, z62_173, HT_r0, HT_r1, HT_r2, HT_r3, HT_r4, HT_r5, HT_r6, HT_r7, HT_r8, HT_a0, HT_a1, HT_a2, HT_a3, HT_a4, HT_w6, HT_w7, HT_b0, HT_b1, HT_b2, HT_b3, HT_b4, q', q1', q3, l0, i_eqll, Nat.reduceEqDiff, ↓reduceIte, i_10, i_00, am_then_some, am_tl1, am_tl0, i_addl, ad2, Nat.reduceAdd, tn_of, List.nil_append]
end
/-- bytes that, with the sign e behind, are a token: its kind, its number -/
def LXK (w : List Nat) (e : Nat) (kd : Int32) (a : Int64) : Prop :=
  (0 < w.length ∧ w.length ≤ 10 ∧ cLet (w.getD 0 0) ∧ (∀ j, j < w.length → cLet (w.getD j 0) ∨ cDig (w.getD j 0)) ∧ ¬ cLet e ∧ ¬ cDig e ∧ kd = Int32.ofNat (resG 41 0 w) ∧ a = wF 0 w) ∨
  (0 < w.length ∧ (∀ j, j < w.length → cDig (w.getD j 0)) ∧ ¬ cHigh e ∧ e ≠ 72 ∧ vF 0 w < 65536 ∧ kd = 101 ∧ a = Int64.ofNat (vF 0 w)) ∨
  (∃ c, w = [c] ∧ ¬ (c = 58 ∧ e = 61) ∧ ¬ (c = 60 ∧ e = 61) ∧ ¬ (c = 62 ∧ e = 61) ∧ ¬ (c = 60 ∧ e = 62) ∧ ¬ (c = 46 ∧ e = 46) ∧ ¬ (c = 40 ∧ e = 42) ∧ c ≠ 38 ∧ c ≠ 126 ∧ c ≠ 34 ∧ c ≠ 39 ∧ c ≠ 32 ∧ c ≠ 10 ∧ ¬ cLet c ∧ ¬ cDig c ∧ sgF 20 0 c = kd ∧ kd ≠ -1 ∧ kd.toInt16.toInt32 = kd ∧ a = 0) ∨
  (w = [58, 61] ∧ kd = 130 ∧ a = 0) ∨ (w = [46, 46] ∧ kd = 133 ∧ a = 0)
theorem LXK_pos {w : List Nat} {e : Nat} {kd : Int32} {a : Int64} (h : LXK w e kd a) : 0 < w.length := by
  rcases h with h | h | ⟨c, rfl, -⟩ | ⟨rfl, -⟩ | ⟨rfl, -⟩
  · exact h.1
  · exact h.1
  · exact Nat.one_pos
  · exact Nat.two_pos
  · exact Nat.two_pos
theorem LXK_nb {w : List Nat} {e e1 : Nat} {kd : Int32} {a : Int64} (h : LXK w e kd a) (h1 : w.length = 1 → e1 = e) : w.getD 0 0 ≠ 32 ∧ w.getD 0 0 ≠ 10 ∧ ¬ (w.getD 0 0 = 40 ∧ e1 = 42) := by
  rcases h with h | h | ⟨c, rfl, h⟩ | ⟨rfl, -⟩ | ⟨rfl, -⟩
  · have := h.2.2.1; omega
  · have := h.2.1 0 h.1; omega
  · have e2 := h1 rfl
    subst e2
    exact ⟨h.2.2.2.2.2.2.2.2.2.2.1, h.2.2.2.2.2.2.2.2.2.2.2.1, h.2.2.2.2.2.1⟩
  · exact ⟨by decide, by decide, fun z => absurd z.1 (by decide)⟩
  · exact ⟨by decide, by decide, fun z => absurd z.1 (by decide)⟩
section
variable {d : Nat} {g : Nat → Nat → Value} {c0 s0 : Nat} {T : Nat → Nat} {sz : Nat} {tk tp : Nat → Int32} {tf ts : Nat → Int64} {t : Nat}
theorem tx_step {b k : Nat} {x : Option Value} {w : List Nat} {kd : Int32} {a : Int64} (hT : ∀ k, T k < 128) (hs : sz < 2001) (hc0 : 286 ≤ c0) (hW : WRD g) (hG : SGN g) (ht : t < 2001) (hb : ∀ j, j < b → CH T sz (k + j) = 32) (hw : ∀ j, j < w.length → CH T sz (k + b + j) = w.getD j 0) (hk : k + b + w.length ≤ sz) (hx : LXK w (CH T sz (k + b + w.length)) kd a) : am_G (d + 8) 53 7 [some (.ref 124537274373), some (.int (Int32.ofNat k)), x] [] (HT g c0 s0 (bF T) sz tk tp tf ts t) = am_G (d + 8) 53 7 [some (.ref 124537274373), some (.int (Int32.ofNat (k + b + w.length))), some (.int (Int32.ofNat k))] [] (HT g c0 s0 (bF T) sz (up tk t kd) (up tp t (Int32.ofNat (k + b))) (up tf t a) (up ts t 0) (t + 1)) := by
  have wp := LXK_pos hx
  have w0 : CH T sz (k + b) = w.getD 0 0 := hw 0 wp
  have nb := LXK_nb (e1 := CH T sz (k + b + 1)) hx (fun z => by rw [z])
  have q0 := tx_blank (d := d + 6) (g := g) (c0 := c0) (s0 := s0) (T := T) (sz := sz) (tk := tk) (tp := tp) (tf := tf) (ts := ts) (t := t) hT hs (b := b) (k := k) hb (by omega) (fun _ => by rw [w0]; exact nb)
  have q1 := tx_at (d := d + 7) (g := g) (c0 := c0) (s0 := s0) (T := T) (sz := sz) (tk := tk) (tp := tp) (tf := tf) (ts := ts) (t := t) (k := k + b) hT hs (by omega)
  have hc := CH_lt (sz := sz) (k := k + b) hT
  have q2 := tx_let (d := d + 7) (h := HT g c0 s0 (bF T) sz tk tp tf ts t) hc
  have q3 := tx_dig (d := d + 7) (h := HT g c0 s0 (bF T) sz tk tp tf ts t) hc
  have l1 : (Int32.ofNat k < 0) = False := n_lt0 (by omega)
  have l2 : ((0 : Int32) ≤ Int32.ofNat (k + b)) = True := (n_gel (k + b) 0 (by omega) (by decide)).trans (eq_true (show ¬ k + b < 0 by omega))
  have l3 : (Int32.ofNat (k + b) = Int32.ofNat sz) = False := (n_eqn _ _ (by omega) (by omega)).trans (eq_false (by omega))
  have l4 : (0 : Nat) = 0 := rfl
  have p34 : (Int32.ofNat (CH T sz (k + b)) = 34) = (CH T sz (k + b) = 34) := n_eql _ 34 (by omega) (by decide)
  have p39 : (Int32.ofNat (CH T sz (k + b)) = 39) = (CH T sz (k + b) = 39) := n_eql _ 39 (by omega) (by decide)
  rw [z53_7]
  rcases hx with ⟨h1, h2, h3, h4, h5, h6, rfl, rfl⟩ | ⟨h1, h2, h3, h4, h5, rfl, rfl⟩ | ⟨c, rfl, n1, n2, n3, n4, n5, n0, n6, n7, n8, n9, -, -, m1, m2, m3, m4, m5, rfl⟩ | ⟨rfl, rfl, rfl⟩ | ⟨rfl, rfl, rfl⟩
  · have q := tx_word (d := d + 1) (g := g) (c0 := c0) (s0 := s0) (T := T) (sz := sz) (tk := tk) (tp := tp) (tf := tf) (ts := ts) (t := t) (from_ := k + b) (w := w) hT hs h1 h2 (by omega) ht hc0 hW (fun j hj => ⟨hw j hj, h4 j hj⟩) h5 h6
    rw [if_pos (by rw [w0]; exact h3)] at q2
    simp (disch := (refine id ?_; first | with_reducible assumption | with_unfolding_all exact rfl | with_unfolding_all exact Nat.le_of_ble_eq_true rfl | (simp only [am_cat_nil, am_cat_int, am_cat_ref, am_cat_null, am_cat_long, Nat.reduceAdd, Nat.reduceLeDiff]; done) | omega | exact i_bnd2 (by simp only [am_n, Nat.reduceDiv, Nat.reduceMod, Nat.reduceMul, Nat.reduceAdd]; omega) | fail)) only [z53_0, z53_1, z53_2, z53_5, z53_6, z53_8, z53_11, z53_12, z53_13, z53_14, z53_15, z53_18, z53_19, z53_20, z53_23, z53_24, z53_25, z53_26, z53_27, z53_28, z53_29, z53_30, z53_33, z53_36, z53_37, z53_38, z53_41, z53_44, z53_45, z53_46, z53_47, z53_48, z53_49, z53_52, z53_53, z53_54, z53_57, z53_58, z53_59, z53_62, z53_65, z53_68, z53_69, z53_70, z53_73, z53_76, z53_77, z53_78, z53_81, z53_84, z53_87, z53_88, z53_89, z53_92, z53_95, z53_96, z53_97, z53_100, z53_102, z53_105, z53_106, z53_107, z53_110, z53_112, z53_115, z53_116, z53_120, z53_123, z53_124, z53_125, z53_128, z53_132, HT_r0, HT_r1, HT_r2, HT_r3, HT_r4, HT_r5, HT_r6, HT_r7, HT_r8, HT_a0, HT_a1, HT_a2, HT_a3, HT_a4, HT_w6, HT_w7, HT_b0, HT_b1, HT_b2, HT_b3, HT_b4, q0, q1, q2, q3, l1, l2, l3, l4, p34, p39, q, ↓reduceIte, i_10, i_00, am_then_some, am_tl1, am_tl0, i_addl, ad2, Nat.reduceAdd, tn_of, List.nil_append]
    rw [z53_129]
  · have nl : ¬ cLet (CH T sz (k + b)) := by rw [w0]; have := h2 0 h1; omega
    have q := tx_number (d := d + 4) (g := g) (c0 := c0) (s0 := s0) (T := T) (sz := sz) (tk := tk) (tp := tp) (tf := tf) (ts := ts) (t := t) (from_ := k + b) (w := w) hT hs h1 (by omega) ht (fun j hj => ⟨hw j hj, h2 j hj⟩) h3 h4 h5
    rw [if_neg nl] at q2
    rw [if_pos (by rw [w0]; exact h2 0 h1)] at q3
    simp (disch := (refine id ?_; first | with_reducible assumption | with_unfolding_all exact rfl | with_unfolding_all exact Nat.le_of_ble_eq_true rfl | (simp only [am_cat_nil, am_cat_int, am_cat_ref, am_cat_null, am_cat_long, Nat.reduceAdd, Nat.reduceLeDiff]; done) | omega | exact i_bnd2 (by simp only [am_n, Nat.reduceDiv, Nat.reduceMod, Nat.reduceMul, Nat.reduceAdd]; omega) | fail)) only [z53_0, z53_1, z53_2, z53_5, z53_6, z53_8, z53_11, z53_12, z53_13, z53_14, z53_15, z53_18, z53_19, z53_20, z53_23, z53_24, z53_25, z53_26, z53_27, z53_28, z53_29, z53_30, z53_33, z53_36, z53_37, z53_38, z53_41, z53_44, z53_45, z53_46, z53_47, z53_48, z53_49, z53_52, z53_53, z53_54, z53_57, z53_58, z53_59, z53_62, z53_65, z53_68, z53_69, z53_70, z53_73, z53_76, z53_77, z53_78, z53_81, z53_84, z53_87, z53_88, z53_89, z53_92, z53_95, z53_96, z53_97, z53_100, z53_102, z53_105, z53_106, z53_107, z53_110, z53_112, z53_115, z53_116, z53_120, z53_123, z53_124, z53_125, z53_128, z53_132, HT_r0, HT_r1, HT_r2, HT_r3, HT_r4, HT_r5, HT_r6, HT_r7, HT_r8, HT_a0, HT_a1, HT_a2, HT_a3, HT_a4, HT_w6, HT_w7, HT_b0, HT_b1, HT_b2, HT_b3, HT_b4, q0, q1, q2, q3, l1, l2, l3, l4, p34, p39, q, ↓reduceIte, i_10, i_00, am_then_some, am_tl1, am_tl0, i_addl, ad2, Nat.reduceAdd, tn_of, List.nil_append]
    rw [z53_129]
  · have w0' : CH T sz (k + b) = c := w0
    have q := tx_sign1 (d := d + 2) (g := g) (c0 := c0) (s0 := s0) (T := T) (sz := sz) (tk := tk) (tp := tp) (tf := tf) (ts := ts) (t := t) (from_ := k + b) (c := c) (e := CH T sz (k + b + 1)) (kd := kd) hT hs (by omega) ht hc0 hG w0' rfl n1 n2 n3 n4 n5 n6 n7 m3 m4 m5
    rw [w0'] at q1 q2 q3 p34 p39
    rw [if_neg m1] at q2
    rw [if_neg m2] at q3
    rw [eq_false n8] at p34
    rw [eq_false n9] at p39
    simp (disch := (refine id ?_; first | with_reducible assumption | with_unfolding_all exact rfl | with_unfolding_all exact Nat.le_of_ble_eq_true rfl | (simp only [am_cat_nil, am_cat_int, am_cat_ref, am_cat_null, am_cat_long, Nat.reduceAdd, Nat.reduceLeDiff]; done) | omega | exact i_bnd2 (by simp only [am_n, Nat.reduceDiv, Nat.reduceMod, Nat.reduceMul, Nat.reduceAdd]; omega) | fail)) only [z53_0, z53_1, z53_2, z53_5, z53_6, z53_8, z53_11, z53_12, z53_13, z53_14, z53_15, z53_18, z53_19, z53_20, z53_23, z53_24, z53_25, z53_26, z53_27, z53_28, z53_29, z53_30, z53_33, z53_36, z53_37, z53_38, z53_41, z53_44, z53_45, z53_46, z53_47, z53_48, z53_49, z53_52, z53_53, z53_54, z53_57, z53_58, z53_59, z53_62, z53_65, z53_68, z53_69, z53_70, z53_73, z53_76, z53_77, z53_78, z53_81, z53_84, z53_87, z53_88, z53_89, z53_92, z53_95, z53_96, z53_97, z53_100, z53_102, z53_105, z53_106, z53_107, z53_110, z53_112, z53_115, z53_116, z53_120, z53_123, z53_124, z53_125, z53_128, z53_132, HT_r0, HT_r1, HT_r2, HT_r3, HT_r4, HT_r5, HT_r6, HT_r7, HT_r8, HT_a0, HT_a1, HT_a2, HT_a3, HT_a4, HT_w6, HT_w7, HT_b0, HT_b1, HT_b2, HT_b3, HT_b4, q0, q1, q2, q3, l1, l2, l3, l4, p34, p39, q, ↓reduceIte, i_10, i_00, am_then_some, am_tl1, am_tl0, i_addl, ad2, Nat.reduceAdd, tn_of, List.nil_append]
    rw [z53_129]
    rfl
  · have w0' : CH T sz (k + b) = 58 := w0
    have w1' : CH T sz (k + b + 1) = 61 := hw 1 (by decide)
    have q := tx_bec (d := d + 2) (g := g) (c0 := c0) (s0 := s0) (T := T) (sz := sz) (tk := tk) (tp := tp) (tf := tf) (ts := ts) (t := t) (from_ := k + b) hT hs (by omega) ht w0' w1'
    rw [w0'] at q1 q2 q3 p34 p39
    rw [if_neg (by decide)] at q2 q3
    rw [eq_false (show ¬ (58 : Nat) = 34 by decide)] at p34
    rw [eq_false (show ¬ (58 : Nat) = 39 by decide)] at p39
    simp (disch := (refine id ?_; first | with_reducible assumption | with_unfolding_all exact rfl | with_unfolding_all exact Nat.le_of_ble_eq_true rfl | (simp only [am_cat_nil, am_cat_int, am_cat_ref, am_cat_null, am_cat_long, Nat.reduceAdd, Nat.reduceLeDiff]; done) | omega | exact i_bnd2 (by simp only [am_n, Nat.reduceDiv, Nat.reduceMod, Nat.reduceMul, Nat.reduceAdd]; omega) | fail)) only [z53_0, z53_1, z53_2, z53_5, z53_6, z53_8, z53_11, z53_12, z53_13, z53_14, z53_15, z53_18, z53_19, z53_20, z53_23, z53_24, z53_25, z53_26, z53_27, z53_28, z53_29, z53_30, z53_33, z53_36, z53_37, z53_38, z53_41, z53_44, z53_45, z53_46, z53_47, z53_48, z53_49, z53_52, z53_53, z53_54, z53_57, z53_58, z53_59, z53_62, z53_65, z53_68, z53_69, z53_70, z53_73, z53_76, z53_77, z53_78, z53_81, z53_84, z53_87, z53_88, z53_89, z53_92, z53_95, z53_96, z53_97, z53_100, z53_102, z53_105, z53_106, z53_107, z53_110, z53_112, z53_115, z53_116, z53_120, z53_123, z53_124, z53_125, z53_128, z53_132, HT_r0, HT_r1, HT_r2, HT_r3, HT_r4, HT_r5, HT_r6, HT_r7, HT_r8, HT_a0, HT_a1, HT_a2, HT_a3, HT_a4, HT_w6, HT_w7, HT_b0, HT_b1, HT_b2, HT_b3, HT_b4, q0, q1, q2, q3, l1, l2, l3, l4, p34, p39, q, ↓reduceIte, i_10, i_00, am_then_some, am_tl1, am_tl0, i_addl, ad2, Nat.reduceAdd, tn_of, List.nil_append]
    rw [z53_129]
    rfl
  · have w0' : CH T sz (k + b) = 46 := w0
    have w1' : CH T sz (k + b + 1) = 46 := hw 1 (by decide)
    have q := tx_upto (d := d + 2) (g := g) (c0 := c0) (s0 := s0) (T := T) (sz := sz) (tk := tk) (tp := tp) (tf := tf) (ts := ts) (t := t) (from_ := k + b) hT hs (by omega) ht w0' w1'
    rw [w0'] at q1 q2 q3 p34 p39
    rw [if_neg (by decide)] at q2 q3
    rw [eq_false (show ¬ (46 : Nat) = 34 by decide)] at p34
    rw [eq_false (show ¬ (46 : Nat) = 39 by decide)] at p39
    simp (disch := (refine id ?_; first | with_reducible assumption | with_unfolding_all exact rfl | with_unfolding_all exact Nat.le_of_ble_eq_true rfl | (simp only [am_cat_nil, am_cat_int, am_cat_ref, am_cat_null, am_cat_long, Nat.reduceAdd, Nat.reduceLeDiff]; done) | omega | exact i_bnd2 (by simp only [am_n, Nat.reduceDiv, Nat.reduceMod, Nat.reduceMul, Nat.reduceAdd]; omega) | fail)) only [z53_0, z53_1, z53_2, z53_5, z53_6, z53_8, z53_11, z53_12, z53_13, z53_14, z53_15, z53_18, z53_19, z53_20, z53_23, z53_24, z53_25, z53_26, z53_27, z53_28, z53_29, z53_30, z53_33, z53_36, z53_37, z53_38, z53_41, z53_44, z53_45, z53_46, z53_47, z53_48, z53_49, z53_52, z53_53, z53_54, z53_57, z53_58, z53_59, z53_62, z53_65, z53_68, z53_69, z53_70, z53_73, z53_76, z53_77, z53_78, z53_81, z53_84, z53_87, z53_88, z53_89, z53_92, z53_95, z53_96, z53_97, z53_100, z53_102, z53_105, z53_106, z53_107, z53_110, z53_112, z53_115, z53_116, z53_120, z53_123, z53_124, z53_125, z53_128, z53_132, HT_r0, HT_r1, HT_r2, HT_r3, HT_r4, HT_r5, HT_r6, HT_r7, HT_r8, HT_a0, HT_a1, HT_a2, HT_a3, HT_a4, HT_w6, HT_w7, HT_b0, HT_b1, HT_b2, HT_b3, HT_b4, q0, q1, q2, q3, l1, l2, l3, l4, p34, p39, q, ↓reduceIte, i_10, i_00, am_then_some, am_tl1, am_tl0, i_addl, ad2, Nat.reduceAdd, tn_of, List.nil_append]
    rw [z53_129]
    rfl
theorem tx_end {x : Option Value} (hT : ∀ k, T k < 128) (hs : sz < 2001) (ht : t < 2001) : am_G (d + 8) 53 7 [some (.ref 124537274373), some (.int (Int32.ofNat sz)), x] [] (HT g c0 s0 (bF T) sz tk tp tf ts t) = some (none, HT g c0 s0 (bF T) sz (up tk t 0) (up tp t (Int32.ofNat sz)) (up tf t 0) (up ts t 0) (t + 1)) := by
  have q0 := tx_blank (d := d + 6) (g := g) (c0 := c0) (s0 := s0) (T := T) (sz := sz) (tk := tk) (tp := tp) (tf := tf) (ts := ts) (t := t) hT hs (b := 0) (k := sz) (fun j hj => by omega) (by omega) (fun z => by omega)
  have q0' : am_M (d + 8) 54 [.ref 124537274373, .int (Int32.ofNat sz)] (HT g c0 s0 (bF T) sz tk tp tf ts t) = some (some (.int (Int32.ofNat sz)), HT g c0 s0 (bF T) sz tk tp tf ts t) := q0
  have l1 : (Int32.ofNat sz < 0) = False := n_lt0 (by omega)
  have l2 : ((0 : Int32) ≤ Int32.ofNat sz) = True := (n_gel sz 0 (by omega) (by decide)).trans (eq_true (show ¬ sz < 0 by omega))
  have l3 : (Int32.ofNat sz = Int32.ofNat sz) = True := eq_true rfl
  have l5 : ((-1 : Int32) < 0) = True := eq_true (by decide)
  have q3 := tx_add (d := d + 7) (g := g) (c0 := c0) (s0 := s0) (T := T) (sz := sz) (tk := tk) (tp := tp) (tf := tf) (ts := ts) (t := t) (kd := 0) (p := sz) (a := 0) (b := 0) ht (by omega) (by decide)
  simp (disch := (refine id ?_; first | with_reducible assumption | with_unfolding_all exact rfl | with_unfolding_all exact Nat.le_of_ble_eq_true rfl | (simp only [am_cat_nil, am_cat_int, am_cat_ref, am_cat_null, am_cat_long, Nat.reduceAdd, Nat.reduceLeDiff]; done) | omega | exact i_bnd2 (by simp only [am_n, Nat.reduceDiv, Nat.reduceMod, Nat.reduceMul, Nat.reduceAdd]; omega) | fail)) only [z53_0, z53_1, z53_2, z53_5, z53_6, z53_7, z53_8, z53_11, z53_12, z53_13, z53_14, z53_15, z53_18, z53_19, z53_20, z53_23, z53_24, z53_25, z53_26, z53_27, z53_28, z53_29, z53_30, z53_33, z53_36, z53_37, z53_38, z53_41, z53_44, z53_45, z53_46, z53_47, z53_48, z53_49, z53_52, z53_53, z53_54, z53_57, z53_58, z53_59, z53_62, z53_65, z53_68, z53_69, z53_70, z53_73, z53_76, z53_77, z53_78, z53_81, z53_84, z53_87, z53_88, z53_89, z53_92, z53_95, z53_96, z53_97, z53_100, z53_102, z53_105, z53_106, z53_107, z53_110, z53_112, z53_115, z53_116, z53_120, z53_123, z53_124, z53_125, z53_128, z53_129, z53_132, HT_r0, HT_r1, HT_r2, HT_r3, HT_r4, HT_r5, HT_r6, HT_r7, HT_r8, HT_a0, HT_a1, HT_a2, HT_a3, HT_a4, HT_w6, HT_w7, HT_b0, HT_b1, HT_b2, HT_b3, HT_b4, q0', l1, l2, l3, l5, q3, ↓reduceIte, i_10, i_00, am_then_some, am_tl1, am_tl0, i_addl, ad2, Nat.reduceAdd, tn_of, List.nil_append]
/-- the tokens of a text: blanks, bytes, kind, number -/
def LT : Type := List (Nat × List Nat × Int32 × Int64)
def LXS (T : Nat → Nat) (sz : Nat) : Nat → List (Nat × List Nat × Int32 × Int64) → Prop
  | k, [] => k = sz
  | k, (b, w, kd, a) :: r => (∀ j, j < b → CH T sz (k + j) = 32) ∧ (∀ j, j < w.length → CH T sz (k + b + j) = w.getD j 0) ∧ k + b + w.length ≤ sz ∧ LXK w (CH T sz (k + b + w.length)) kd a ∧ LXS T sz (k + b + w.length) r
def RD (tk tp : Nat → Int32) (tf ts : Nat → Int64) : Nat → Nat → List (Nat × List Nat × Int32 × Int64) → Prop
  | i, k, [] => tk i = 0 ∧ tp i = Int32.ofNat k
  | i, k, (b, w, kd, a) :: r => (tk i = kd ∧ tp i = Int32.ofNat (k + b) ∧ tf i = a ∧ ts i = 0) ∧ RD tk tp tf ts (i + 1) (k + b + w.length) r
theorem tx_loop (hT : ∀ k, T k < 128) (hs : sz < 2001) (hc0 : 286 ≤ c0) (hW : WRD g) (hG : SGN g) : ∀ (L : List (Nat × List Nat × Int32 × Int64)) (k i : Nat) (x : Option Value) (tk tp : Nat → Int32) (tf ts : Nat → Int64), LXS T sz k L → i ≤ k →
    ∃ tk' tp' tf' ts', am_G (d + 8) 53 7 [some (.ref 124537274373), some (.int (Int32.ofNat k)), x] [] (HT g c0 s0 (bF T) sz tk tp tf ts i) = some (none, HT g c0 s0 (bF T) sz tk' tp' tf' ts' (i + L.length + 1)) ∧ RD tk' tp' tf' ts' i k L ∧ ∀ j, j < i → tk' j = tk j ∧ tp' j = tp j ∧ tf' j = tf j ∧ ts' j = ts j := by
  intro L
  induction L with
  | nil =>
    intro k i x tk tp tf ts hl hi
    have hk : k = sz := hl
    subst hk
    refine ⟨_, _, _, _, tx_end (t := i) hT hs (by omega), ⟨up_eq, up_eq⟩, fun j hj => ⟨up_ne (by omega), up_ne (by omega), up_ne (by omega), up_ne (by omega)⟩⟩
  | cons c r ih =>
    obtain ⟨b, w, kd, a⟩ := c
    intro k i x tk tp tf ts hl hi
    obtain ⟨h1, h2, h3, h4, h5⟩ := hl
    have wp := LXK_pos h4
    obtain ⟨tk', tp', tf', ts', e, e2, e3⟩ := ih (k + b + w.length) (i + 1) (some (.int (Int32.ofNat k))) (up tk i kd) (up tp i (Int32.ofNat (k + b))) (up tf i a) (up ts i 0) h5 (by omega)
    have e' : am_G (d + 8) 53 7 [some (.ref 124537274373), some (.int (Int32.ofNat (k + b + w.length))), some (.int (Int32.ofNat k))] [] (HT g c0 s0 (bF T) sz (up tk i kd) (up tp i (Int32.ofNat (k + b))) (up tf i a) (up ts i 0) (i + 1)) = _ := e
    refine ⟨tk', tp', tf', ts', ?_, ⟨?_, e2⟩, fun j hj => ?_⟩
    · rw [tx_step (d := d) (t := i) (kd := kd) (a := a) hT hs hc0 hW hG (by omega) h1 h2 h3 h4, e']
      rw [show i + 1 + r.length + 1 = i + ((b, w, kd, a) :: r).length + 1 by rw [List.length_cons]; omega]
    · obtain ⟨f1, f2, f3, f4⟩ := e3 i (by omega)
      rw [f1, f2, f3, f4]
      exact ⟨up_eq, up_eq, up_eq, up_eq⟩
    · obtain ⟨f1, f2, f3, f4⟩ := e3 j (by omega)
      rw [f1, f2, f3, f4]
      exact ⟨up_ne (by omega), up_ne (by omega), up_ne (by omega), up_ne (by omega)⟩
theorem tx_read {L : List (Nat × List Nat × Int32 × Int64)} (hT : ∀ k, T k < 128) (hs : sz < 2001) (hc0 : 286 ≤ c0) (hW : WRD g) (hG : SGN g) (hL : LXS T sz 0 L) :
    ∃ tk' tp' tf' ts', am_M (d + 9) 53 [.ref 124537274373] (HT g c0 s0 (bF T) sz tk tp tf ts t) = some (none, HT g c0 s0 (bF T) sz tk' tp' tf' ts' (L.length + 1)) ∧ RD tk' tp' tf' ts' 0 0 L := by
  obtain ⟨tk', tp', tf', ts', e, e2, -⟩ := tx_loop (d := d) (g := g) (c0 := c0) (s0 := s0) hT hs hc0 hW hG L 0 0 none tk tp tf ts hL (Nat.le_refl _)
  refine ⟨tk', tp', tf', ts', ?_, e2⟩
  have e' : am_G (d + 8) 53 7 [some (.ref 124537274373), some (.int 0), none] [] (HT g c0 s0 (bF T) sz tk tp tf ts 0) = _ := e
  rw [show 0 + L.length + 1 = L.length + 1 by omega] at e'
  rw [e53]
  refine Eq.trans ?_ e'
  have hz : am_p (HT g c0 s0 (bF T) sz tk tp tf ts t) 124537274373 6 (.int 0) = HT g c0 s0 (bF T) sz tk tp tf ts 0 := HT_w7 (w := 0)
  simp (disch := (refine id ?_; first | with_reducible assumption | with_unfolding_all exact rfl | with_unfolding_all exact Nat.le_of_ble_eq_true rfl | (simp only [am_cat_nil, am_cat_int, am_cat_ref, am_cat_null, am_cat_long, Nat.reduceAdd, Nat.reduceLeDiff]; done) | omega | exact i_bnd2 (by simp only [am_n, Nat.reduceDiv, Nat.reduceMod, Nat.reduceMul, Nat.reduceAdd]; omega) | fail)) only [z53_0, z53_1, z53_2, z53_5, z53_6, HT_r0, HT_r1, HT_r2, HT_r3, HT_r4, HT_r5, HT_r6, HT_r7, HT_r8, HT_a0, HT_a1, HT_a2, HT_a3, HT_a4, HT_w6, HT_w7, HT_b0, HT_b1, HT_b2, HT_b3, HT_b4, hz, ↓reduceIte, i_10, i_00, am_then_some, am_tl1, am_tl0, i_addl, ad2, Nat.reduceAdd, tn_of, List.nil_append]
end
/-- a text of tokens: what comes next -/
def nxL : List (Nat × List Nat × Int32 × Int64) → Nat
  | [] => 0
  | (b, w, _, _) :: _ => if b = 0 then w.getD 0 0 else 32
def txL : List (Nat × List Nat × Int32 × Int64) → List Nat
  | [] => []
  | (b, w, _, _) :: r => List.replicate b 32 ++ (w ++ txL r)
def okL : List (Nat × List Nat × Int32 × Int64) → Prop
  | [] => True
  | (b, w, kd, a) :: r => LXK w (nxL r) kd a ∧ okL r
def TF (l : List Nat) : Nat → Nat := fun k => l.getD k 0
theorem CH_TF {l : List Nat} {k : Nat} : CH (TF l) l.length k = l.getD k 0 := by
  unfold CH TF
  split
  · rfl
  · rw [List.getD_eq_getElem?_getD, List.getElem?_eq_none (by omega)]; rfl
theorem getD_app {l r : List Nat} {k : Nat} : (l ++ r).getD (l.length + k) 0 = r.getD k 0 := by
  rw [List.getD_eq_getElem?_getD, List.getElem?_append_right (by omega), List.getD_eq_getElem?_getD, show l.length + k - l.length = k by omega]
theorem getD_appl {l r : List Nat} {k : Nat} (h : k < l.length) : (l ++ r).getD k 0 = l.getD k 0 := by
  rw [List.getD_eq_getElem?_getD, List.getElem?_append_left h, List.getD_eq_getElem?_getD]
theorem nxL_ok (L : List (Nat × List Nat × Int32 × Int64)) (h : okL L) : (txL L).getD 0 0 = nxL L := by
  cases L with
  | nil => rfl
  | cons c r =>
    obtain ⟨b, w, kd, a⟩ := c
    have wp := LXK_pos h.1
    show (List.replicate b 32 ++ (w ++ txL r)).getD 0 0 = if b = 0 then w.getD 0 0 else 32
    by_cases c : b = 0
    · subst c
      rw [if_pos rfl]
      exact getD_appl wp
    · rw [if_neg c, getD_appl (by rw [List.length_replicate]; omega), List.getD_eq_getElem?_getD, List.getElem?_replicate, if_pos (by omega)]
      rfl
theorem LXS_ok (L : List (Nat × List Nat × Int32 × Int64)) : ∀ (p : List Nat), okL L → LXS (TF (p ++ txL L)) (p ++ txL L).length p.length L := by
  induction L with
  | nil => intro p _; show p.length = (p ++ []).length; rw [List.append_nil]
  | cons c r ih0 =>
    obtain ⟨b, w, kd, a⟩ := c
    intro p h
    obtain ⟨h1, h2⟩ := h
    have ih := ih0 (p ++ (List.replicate b 32 ++ w)) h2
    have ea : p ++ (List.replicate b 32 ++ w) ++ txL r = p ++ txL ((b, w, kd, a) :: r) := by
      show _ = p ++ (List.replicate b 32 ++ (w ++ txL r))
      rw [List.append_assoc, List.append_assoc]
    have el : (p ++ (List.replicate b 32 ++ w)).length = p.length + b + w.length := by
      rw [List.length_append, List.length_append, List.length_replicate]; omega
    have nx : CH (TF (p ++ txL ((b, w, kd, a) :: r))) (p ++ txL ((b, w, kd, a) :: r)).length (p.length + b + w.length) = nxL r := by
      have g0 := getD_app (l := p ++ (List.replicate b 32 ++ w)) (r := txL r) (k := 0)
      rw [Nat.add_zero, el, ea] at g0
      rw [CH_TF, g0, nxL_ok r h2]
    rw [ea, el] at ih
    refine ⟨fun j hj => ?_, fun j hj => ?_, ?_, by rw [nx]; exact h1, ih⟩
    · rw [CH_TF]
      show (p ++ (List.replicate b 32 ++ (w ++ txL r))).getD _ 0 = 32
      rw [getD_app, getD_appl (by rw [List.length_replicate]; omega), List.getD_eq_getElem?_getD, List.getElem?_replicate, if_pos hj]
      rfl
    · rw [CH_TF]
      show (p ++ (List.replicate b 32 ++ (w ++ txL r))).getD _ 0 = _
      have e : (List.replicate b 32 ++ (w ++ txL r)).getD (b + j) 0 = w.getD j 0 := by
        have := getD_app (l := List.replicate b 32) (r := w ++ txL r) (k := j)
        rw [List.length_replicate] at this
        rw [this, getD_appl hj]
      rw [show p.length + b + j = p.length + (b + j) by omega, getD_app, e]
    · rw [← ea, List.length_append, el]; omega

section
variable {d : Nat} {g : Nat → Nat → Value} {c0 s0 : Nat} {T : Nat → Nat} {sz : Nat} {tk tp : Nat → Int32} {tf ts : Nat → Int64} {t : Nat}
theorem TF_up {l : List Nat} {k : Nat} (hk : k < l.length) : up (bF (TF (l.take k))) k (Int32.ofNat (l.getD k 0)) = bF (TF (l.take (k + 1))) := by
  funext j
  unfold up bF TF
  by_cases e : j = k
  · subst e
    rw [if_pos rfl, List.getD_eq_getElem?_getD, List.getD_eq_getElem?_getD, List.getElem?_take, if_pos (by omega)]
  · rw [if_neg e, List.getD_eq_getElem?_getD, List.getD_eq_getElem?_getD, List.getElem?_take, List.getElem?_take]
    by_cases c : j < k
    · rw [if_pos c, if_pos (by omega)]
    · rw [if_neg c, if_neg (by omega)]
theorem tx_tk {l : List Nat} (hl : ∀ k, k < l.length → g 4815189033 k = .int (Int32.ofNat (l.getD k 0))) (h8 : ∀ k, k < l.length → l.getD k 0 < 128) (hn : l.length < 2001) : ∀ (m k : Nat), k + m = l.length → am_G (d + 0) 52 7 [some (.ref 124537274373), some (.ref 4815189033), some (.int (Int32.ofNat l.length)), some (.int (Int32.ofNat k))] [] (HT g c0 s0 (bF (TF (l.take k))) l.length tk tp tf ts t) = some (none, HT g c0 s0 (bF (TF l)) l.length tk tp tf ts t) := by
  intro m
  induction m with
  | zero =>
    intro k hk
    have r1 : (Int32.ofNat l.length ≤ Int32.ofNat k) = True := (n_le (by omega) (by omega)).trans (eq_true (by omega))
    rw [List.take_of_length_le (by omega)]
    simp (disch := (refine id ?_; first | with_reducible assumption | with_unfolding_all exact rfl | with_unfolding_all exact Nat.le_of_ble_eq_true rfl | (simp only [am_cat_nil, am_cat_int, am_cat_ref, am_cat_null, am_cat_long, Nat.reduceAdd, Nat.reduceLeDiff]; done) | omega | exact i_bnd2 (by simp only [am_n, Nat.reduceDiv, Nat.reduceMod, Nat.reduceMul, Nat.reduceAdd]; omega) | fail)) only [z52_7, z52_8, z52_9, z52_12, z52_13, z52_16, z52_17, z52_17N, z52_18, z52_19, z52_20, z52_21, z52_24, z52_27, HT_r0, HT_r1, HT_r2, HT_r3, HT_r4, HT_r5, HT_r6, HT_r7, HT_r8, HT_a0, HT_a1, HT_a2, HT_a3, HT_a4, HT_w6, HT_w7, HT_b0, HT_b1, HT_b2, HT_b3, HT_b4, r1, ↓reduceIte, i_10, i_00, am_then_some, am_tl1, am_tl0, i_addl, ad2, Nat.reduceAdd, tn_of, List.nil_append]
  | succ m ih =>
    intro k hk
    have r1 : (Int32.ofNat l.length ≤ Int32.ofNat k) = False := (n_le (by omega) (by omega)).trans (eq_false (by omega))
    have b := h8 k (by omega)
    have e1 : am_g (HT g c0 s0 (bF (TF (l.take k))) l.length tk tp tf ts t) 4815189033 k = .int (Int32.ofNat (l.getD k 0)) := hl k (by omega)
    have e2 : (Int32.ofNat (l.getD k 0)).toInt8.toInt32 = Int32.ofNat (l.getD k 0) := n_i8 b
    have e3 := TF_up (l := l) (k := k) (by omega)
    rw [← ih (k + 1) (by omega), z52_7]
    simp (disch := (refine id ?_; first | with_reducible assumption | with_unfolding_all exact rfl | with_unfolding_all exact Nat.le_of_ble_eq_true rfl | (simp only [am_cat_nil, am_cat_int, am_cat_ref, am_cat_null, am_cat_long, Nat.reduceAdd, Nat.reduceLeDiff]; done) | omega | exact i_bnd2 (by simp only [am_n, Nat.reduceDiv, Nat.reduceMod, Nat.reduceMul, Nat.reduceAdd]; omega) | fail)) only [z52_0, z52_1, z52_2, z52_5, z52_6, z52_8, z52_9, z52_12, z52_13, z52_16, z52_17, z52_17N, z52_18, z52_19, z52_20, z52_21, z52_24, z52_27, HT_r0, HT_r1, HT_r2, HT_r3, HT_r4, HT_r5, HT_r6, HT_r7, HT_r8, HT_a0, HT_a1, HT_a2, HT_a3, HT_a4, HT_w6, HT_w7, HT_b0, HT_b1, HT_b2, HT_b3, HT_b4, r1, e1, e2, e3, ↓reduceIte, i_10, i_00, am_then_some, am_tl1, am_tl0, i_addl, ad2, Nat.reduceAdd, tn_of, List.nil_append]
theorem tx_take {l : List Nat} (hl : ∀ k, k < l.length → g 4815189033 k = .int (Int32.ofNat (l.getD k 0))) (h8 : ∀ k, k < l.length → l.getD k 0 < 128) (hn : l.length < 2001) : am_M (d + 1) 52 [.ref 124537274373, .ref 4815189033, .int (Int32.ofNat l.length)] (HT g c0 s0 (fun _ => 0) sz tk tp tf ts t) = some (none, HT g c0 s0 (bF (TF l)) l.length tk tp tf ts t) := by
  have q := tx_tk (d := d) (g := g) (c0 := c0) (s0 := s0) (tk := tk) (tp := tp) (tf := tf) (ts := ts) (t := t) hl h8 hn l.length 0 (by omega)
  have e0 : bF (TF (l.take 0)) = fun _ => 0 := rfl
  rw [e0] at q
  rw [e52 rfl]
  refine Eq.trans ?_ q
  simp (disch := (refine id ?_; first | with_reducible assumption | with_unfolding_all exact rfl | with_unfolding_all exact Nat.le_of_ble_eq_true rfl | (simp only [am_cat_nil, am_cat_int, am_cat_ref, am_cat_null, am_cat_long, Nat.reduceAdd, Nat.reduceLeDiff]; done) | omega | exact i_bnd2 (by simp only [am_n, Nat.reduceDiv, Nat.reduceMod, Nat.reduceMul, Nat.reduceAdd]; omega) | fail)) only [z52_0, z52_1, z52_2, z52_5, z52_6, HT_r0, HT_r1, HT_r2, HT_r3, HT_r4, HT_r5, HT_r6, HT_r7, HT_r8, HT_a0, HT_a1, HT_a2, HT_a3, HT_a4, HT_w6, HT_w7, HT_b0, HT_b1, HT_b2, HT_b3, HT_b4, ↓reduceIte, i_10, i_00, am_then_some, am_tl1, am_tl0, i_addl, ad2, Nat.reduceAdd, tn_of, List.nil_append]
  rfl
end
