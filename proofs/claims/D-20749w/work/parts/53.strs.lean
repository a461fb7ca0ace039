/-! Strings (printed by gen/strs.py) -/
set_option maxRecDepth 100000
set_option maxHeartbeats 4000000
theorem n_bnd {n a : Nat} (h : n < am_n a) (hn : n < 2147483648) : ¬ (Int32.ofNat n < 0 ∨ am_n a ≤ (Int32.ofNat n).toNatClampNeg) := by
  rw [tn_of hn, n_lt0 hn]
  rintro (q | q)
  · exact q
  · omega
/-- a string of signs below 128 -/
def STR (h : am_H) (a : Nat) (l : List Nat) : Prop := am_k a = 19 ∧ am_g h a 1 = .int 0 ∧ am_i a < h.1 ∧ l.length < 65536 ∧ (∀ j, j < l.length → l.getD j 0 < 128) ∧ ∃ b, am_g h a 0 = .ref b ∧ am_k b = 41 ∧ am_n b = l.length ∧ am_i b < h.1 ∧ ∀ j, j < l.length → am_g h b j = .int (Int32.ofNat (l.getD j 0))
section
variable {d a : Nat} {h : am_H} {l : List Nat}
theorem shr_0 {x : Int32} : x >>> (0 &&& 31) = x := by
  rw [show (0 : Int32) &&& 31 = 0 from rfl]
  apply Int32.toBitVec_inj.mp
  rw [Int32.toBitVec_shiftRight]
  show x.toBitVec.sshiftRight' ((0 : BitVec 32).smod 32) = _
  rw [show (0 : BitVec 32).smod 32 = 0 by decide]
  simp
theorem n_ch {n : Nat} (h : n < 65536) : (((Int32.ofNat n).toUInt32 % 65536).toInt32) = Int32.ofNat n := by
  apply n_eq
  show (BitVec.ofInt 32 (n : Int) % 65536#32).toNat = _
  rw [BitVec.toNat_umod]
  simp
  omega
theorem n_nar {n : Nat} (h : n < 65536) : narrow .char (.int (Int32.ofNat n)) = .int (Int32.ofNat n) := by
  show Value.int (((Int32.ofNat n).toUInt32 % 65536).toInt32) = _
  rw [n_ch h]
theorem str_coder (s : STR h a l) : am_M (d + 1) 278 [.ref a] h = some (some (.int 0), h) := by
  obtain ⟨s0, s1, s2, s3, s4, b, s5, s6, s7, s8, s9⟩ := s
  rw [e278]
  simp (disch := (refine id ?_; first | with_reducible assumption | with_unfolding_all exact rfl | with_unfolding_all exact Nat.le_of_ble_eq_true rfl | (simp only [am_cat_nil, am_cat_int, am_cat_ref, am_cat_null, am_cat_long, Nat.reduceAdd, Nat.reduceLeDiff]; done) | omega | exact n_bnd (by omega) (by omega) | exact rfl | fail)) only [z278_0, z278_3, z278_6, z278_7, z278_10, z278_13, z278_14, s1, ↓reduceIte, am_then_some, am_tl1, am_tl0, i_10, i_00, Int32.shiftRight_zero]
theorem str_lat (s : STR h a l) : am_M (d + 1) 280 [.ref a] h = some (some (.int 1), h) := by
  obtain ⟨s0, s1, s2, s3, s4, b, s5, s6, s7, s8, s9⟩ := s
  rw [e280]
  simp (disch := (refine id ?_; first | with_reducible assumption | with_unfolding_all exact rfl | with_unfolding_all exact Nat.le_of_ble_eq_true rfl | (simp only [am_cat_nil, am_cat_int, am_cat_ref, am_cat_null, am_cat_long, Nat.reduceAdd, Nat.reduceLeDiff]; done) | omega | exact n_bnd (by omega) (by omega) | exact rfl | fail)) only [z280_0, z280_3, z280_6, z280_7, z280_10, z280_13, z280_14, z280_17, z280_18, s1, ↓reduceIte, am_then_some, am_tl1, am_tl0, i_10, i_00, Int32.shiftRight_zero]
theorem str_len (s : STR h a l) : am_M (d + 2) 277 [.ref a] h = some (some (.int (Int32.ofNat l.length)), h) := by
  have q := str_coder (d := d) s
  obtain ⟨s0, s1, s2, s3, s4, b, s5, s6, s7, s8, s9⟩ := s
  have k1 : 40 ≤ am_k b := by omega
  have k2 : am_k b < 50 := by omega
  rw [e277]
  simp (disch := (refine id ?_; first | with_reducible assumption | with_unfolding_all exact rfl | with_unfolding_all exact Nat.le_of_ble_eq_true rfl | (simp only [am_cat_nil, am_cat_int, am_cat_ref, am_cat_null, am_cat_long, Nat.reduceAdd, Nat.reduceLeDiff]; done) | omega | exact n_bnd (by omega) (by omega) | exact rfl | fail)) only [z277_0, z277_1, z277_4, z277_5, z277_6, z277_9, z277_10, q, s5, s7, shr_0, ↓reduceIte, am_then_some, am_tl1, am_tl0, i_10, i_00, Int32.shiftRight_zero]
theorem str_ck {i n : Nat} (h1 : i < n) (h2 : n < 2147483648) {p : Value} (hp : p.category = 1) : am_M (d + 1) 290 [.int (Int32.ofNat i), .int (Int32.ofNat n), p] h = some (some (.int (Int32.ofNat i)), h) := by
  have q : (Int32.ofNat i < Int32.ofNat n) = True := (n_gt (by omega) (by omega)).trans (eq_true h1)
  have q2 : (Int32.ofNat i < 0) = False := n_lt0 (by omega)
  rw [e290 hp]
  simp (disch := (refine id ?_; first | with_reducible assumption | with_unfolding_all exact rfl | with_unfolding_all exact Nat.le_of_ble_eq_true rfl | (simp only [am_cat_nil, am_cat_int, am_cat_ref, am_cat_null, am_cat_long, Nat.reduceAdd, Nat.reduceLeDiff]; done) | omega | exact n_bnd (by omega) (by omega) | exact rfl | fail)) only [z290_0, z290_1, z290_4, z290_5, z290_6, z290_9, z290_9N, z290_10, z290_11, z290_16, z290_17, q, q2, ↓reduceIte, am_then_some, am_tl1, am_tl0, i_10, i_00, Int32.shiftRight_zero]
theorem str_ck2 {i n : Nat} (h1 : i < n) (h2 : n < 2147483648) : am_M (d + 2) 281 [.int (Int32.ofNat i), .int (Int32.ofNat n)] h = some (none, h) := by
  have q := str_ck (d := d) (h := h) (p := .ref 50331711) h1 h2 rfl
  rw [e281]
  simp (disch := (refine id ?_; first | with_reducible assumption | with_unfolding_all exact rfl | with_unfolding_all exact Nat.le_of_ble_eq_true rfl | (simp only [am_cat_nil, am_cat_int, am_cat_ref, am_cat_null, am_cat_long, Nat.reduceAdd, Nat.reduceLeDiff]; done) | omega | exact n_bnd (by omega) (by omega) | exact rfl | fail)) only [z281_0, z281_1, z281_2, z281_5, z281_8, z281_8I, z281_9, q, ↓reduceIte, am_then_some, am_tl1, am_tl0, i_10, i_00, Int32.shiftRight_zero]
theorem str_at {j : Nat} (s : STR h a l) (hj : j < l.length) : am_M (d + 4) 279 [.ref a, .int (Int32.ofNat j)] h = some (some (.int (Int32.ofNat (l.getD j 0))), h) := by
  have q := str_lat (d := d + 2) s
  obtain ⟨s0, s1, s2, s3, s4, b, s5, s6, s7, s8, s9⟩ := s
  have k1 : 40 ≤ am_k b := by omega
  have k2 : am_k b < 50 := by omega
  have q2 := str_ck2 (d := d) (h := h) (i := j) (n := l.length) hj (by omega)
  have b1 : ¬ (Int32.ofNat j < 0 ∨ am_n b ≤ (Int32.ofNat j).toNatClampNeg) := n_bnd (by omega) (by omega)
  have t1 : (Int32.ofNat j).toNatClampNeg = j := tn_of (by omega)
  have c1 := s4 j hj
  have c2 := s9 j hj
  have c3 : Int32.ofNat (l.getD j 0) &&& 255 = Int32.ofNat (l.getD j 0) := by rw [n_and255 (by omega)]; congr 1; omega
  have c4 := n_ch (n := l.getD j 0) (by omega)
  have c5 := n_nar (n := l.getD j 0) (by omega)
  have q3 : am_M (d + 3) 287 [.ref b, .int (Int32.ofNat j)] h = some (some (.int (Int32.ofNat (l.getD j 0))), h) := by
    rw [e287 rfl]
    simp (disch := (refine id ?_; first | with_reducible assumption | with_unfolding_all exact rfl | with_unfolding_all exact Nat.le_of_ble_eq_true rfl | (simp only [am_cat_nil, am_cat_int, am_cat_ref, am_cat_null, am_cat_long, Nat.reduceAdd, Nat.reduceLeDiff]; done) | omega | exact n_bnd (by omega) (by omega) | exact rfl | fail)) only [z287_0, z287_1, z287_1N, z287_2, z287_3, z287_6, z287_6N, z287_7, z287_8, z287_9, z287_12, z287_13, z287_14, s7, q2, t1, c2, c3, c4, ↓reduceIte, am_then_some, am_tl1, am_tl0, i_10, i_00, Int32.shiftRight_zero]
  rw [e279]
  simp (disch := (refine id ?_; first | with_reducible assumption | with_unfolding_all exact rfl | with_unfolding_all exact Nat.le_of_ble_eq_true rfl | (simp only [am_cat_nil, am_cat_int, am_cat_ref, am_cat_null, am_cat_long, Nat.reduceAdd, Nat.reduceLeDiff]; done) | omega | exact n_bnd (by omega) (by omega) | exact rfl | fail)) only [z279_0, z279_1, z279_4, z279_7, z279_8, z279_11, z279_12, z279_15, z279_16, z279_17, z279_20, z279_24, q, s5, q3, ↓reduceIte, am_then_some, am_tl1, am_tl0, i_10, i_00, Int32.shiftRight_zero]

end
theorem ama_k {c n k : Nat} (hk : k < 64) : am_k (am_a c n k) = k := by unfold am_k am_a; omega
theorem ama_n {c n k : Nat} (hk : k < 64) (hn : n < 262144) : am_n (am_a c n k) = n := by unfold am_n am_a; omega
theorem ama_i {c n k : Nat} (hk : k < 64) (hn : n < 262144) : am_i (am_a c n k) = c := by unfold am_i am_a; omega
theorem ama_ne {c n k b : Nat} (hk : k < 64) (hn : n < 262144) (hb : am_i b < c) : b ≠ am_a c n k := fun e => by rw [e, ama_i hk hn] at hb; omega
def eqF : Nat → Nat → List Nat → List Nat → Bool
  | 0, _, _, _ => true
  | m + 1, i, l, l' => (l.getD i 0 == l'.getD i 0) && eqF m (i + 1) l l'
theorem eqF_iff {l l' : List Nat} : ∀ (m i : Nat), eqF m i l l' = true ↔ ∀ j, i ≤ j → j < i + m → l.getD j 0 = l'.getD j 0 := by
  intro m
  induction m with
  | zero => intro i; exact ⟨fun _ j h1 h2 => by omega, fun _ => rfl⟩
  | succ m ih =>
    intro i
    unfold eqF
    rw [Bool.and_eq_true, ih, beq_iff_eq]
    constructor
    · rintro ⟨h1, h2⟩ j h3 h4
      by_cases c : j = i
      · rw [c]; exact h1
      · exact h2 j (by omega) (by omega)
    · intro h
      exact ⟨h i (by omega) (by omega), fun j h1 h2 => h j (by omega) (by omega)⟩
theorem eqF_eq {l l' : List Nat} (h : l.length = l'.length) : eqF l.length 0 l l' = true ↔ l = l' := by
  rw [eqF_iff]
  constructor
  · intro e
    apply List.ext_getElem h
    intro j h1 h2
    have := e j (by omega) (by omega)
    rw [List.getD_eq_getElem?_getD, List.getD_eq_getElem?_getD, List.getElem?_eq_getElem h1, List.getElem?_eq_getElem h2] at this
    exact this
  · rintro rfl j _ _
    rfl
section
variable {d : Nat} {h : am_H}
theorem arr_eq {b b' : Nat} {l l' : List Nat} (k1 : am_k b = 41) (k2 : am_k b' = 41) (n1 : am_n b = l.length) (n2 : am_n b' = l.length) (hn : l.length < 65536) (c1 : ∀ j, j < l.length → am_g h b j = .int (Int32.ofNat (l.getD j 0))) (c2 : ∀ j, j < l.length → am_g h b' j = .int (Int32.ofNat (l'.getD j 0))) (v1 : ∀ j, j < l.length → l.getD j 0 < 128) (v2 : ∀ j, j < l.length → l'.getD j 0 < 128) :
    ∀ (m i : Nat), i + m = l.length → am_G d 289 9 [some (.ref b), some (.ref b'), some (.int (Int32.ofNat i))] [] h = some (some (.int (if eqF m i l l' = true then 1 else 0)), h) := by
  have k3 : 40 ≤ am_k b := by omega
  have k4 : am_k b < 50 := by omega
  intro m
  induction m with
  | zero =>
    intro i hi
    have q : (Int32.ofNat l.length ≤ Int32.ofNat i) = True := (n_le (by omega) (by omega)).trans (eq_true (by omega))
    simp (disch := (refine id ?_; first | with_reducible assumption | with_unfolding_all exact rfl | with_unfolding_all exact Nat.le_of_ble_eq_true rfl | (simp only [am_cat_nil, am_cat_int, am_cat_ref, am_cat_null, am_cat_long, Nat.reduceAdd, Nat.reduceLeDiff]; done) | omega | exact n_bnd (by omega) (by omega) | exact rfl | fail)) only [z289_9, z289_10, z289_10N, z289_11, z289_12, z289_15, z289_15N, z289_16, z289_17, z289_18, z289_18N, z289_19, z289_20, z289_21, z289_24, z289_25, z289_26, z289_29, z289_32, z289_33, z289_34, z289_35, q, n1, n2, ↓reduceIte, am_then_some, am_tl1, am_tl0, i_10, i_00, Int32.shiftRight_zero]
    rfl
  | succ m ih =>
    intro i hi
    have q : (Int32.ofNat l.length ≤ Int32.ofNat i) = False := (n_le (by omega) (by omega)).trans (eq_false (by omega))
    have b1 : ¬ (Int32.ofNat i < 0 ∨ am_n b ≤ (Int32.ofNat i).toNatClampNeg) := n_bnd (by omega) (by omega)
    have b2 : ¬ (Int32.ofNat i < 0 ∨ am_n b' ≤ (Int32.ofNat i).toNatClampNeg) := n_bnd (by omega) (by omega)
    have t1 : (Int32.ofNat i).toNatClampNeg = i := tn_of (by omega)
    have g1 := c1 i (by omega)
    have g2 := c2 i (by omega)
    have w1 := v1 i (by omega)
    have w2 := v2 i (by omega)
    by_cases e : l.getD i 0 = l'.getD i 0
    · have f : eqF (m + 1) i l l' = eqF m (i + 1) l l' := by show ((l.getD i 0 == l'.getD i 0) && _) = _; rw [e]; simp
      rw [f, ← ih (i + 1) (by omega)]
      have e2 : (Int32.ofNat (l.getD i 0) = Int32.ofNat (l'.getD i 0)) = True := eq_true (by rw [e])
      rw [z289_9]
      simp (disch := (refine id ?_; first | with_reducible assumption | with_unfolding_all exact rfl | with_unfolding_all exact Nat.le_of_ble_eq_true rfl | (simp only [am_cat_nil, am_cat_int, am_cat_ref, am_cat_null, am_cat_long, Nat.reduceAdd, Nat.reduceLeDiff]; done) | omega | exact n_bnd (by omega) (by omega) | exact rfl | fail)) only [z289_10, z289_10N, z289_11, z289_12, z289_15, z289_15N, z289_16, z289_17, z289_18, z289_18N, z289_19, z289_20, z289_21, z289_24, z289_25, z289_26, z289_29, z289_32, z289_33, z289_34, z289_35, q, n1, n2, t1, g1, g2, e2, i_addl, ↓reduceIte, am_then_some, am_tl1, am_tl0, i_10, i_00, Int32.shiftRight_zero]
    · have f : eqF (m + 1) i l l' = false := by show ((l.getD i 0 == l'.getD i 0) && _) = _; rw [beq_false_of_ne e]; rfl
      rw [f]
      have e2 : (Int32.ofNat (l.getD i 0) = Int32.ofNat (l'.getD i 0)) = False := eq_false (i_ne e (by omega) (by omega))
      rw [z289_9]
      simp (disch := (refine id ?_; first | with_reducible assumption | with_unfolding_all exact rfl | with_unfolding_all exact Nat.le_of_ble_eq_true rfl | (simp only [am_cat_nil, am_cat_int, am_cat_ref, am_cat_null, am_cat_long, Nat.reduceAdd, Nat.reduceLeDiff]; done) | omega | exact n_bnd (by omega) (by omega) | exact rfl | fail)) only [z289_10, z289_10N, z289_11, z289_12, z289_15, z289_15N, z289_16, z289_17, z289_18, z289_18N, z289_19, z289_20, z289_21, z289_24, z289_25, z289_26, z289_29, z289_32, z289_33, z289_34, z289_35, q, n1, n2, t1, g1, g2, e2, i_addl, ↓reduceIte, am_then_some, am_tl1, am_tl0, i_10, i_00, Int32.shiftRight_zero]
      rfl
theorem str_eq {a a' : Nat} {l l' : List Nat} (hp : am_P ≤ am_i a') (s : STR h a l) (s' : STR h a' l') : am_M (d + 2) 286 [.ref a, .ref a'] h = some (some (.int (if l = l' then 1 else 0)), h) := by
  obtain ⟨s0, s1, s2, s3, s4, b, s5, s6, s7, s8, s9⟩ := s
  obtain ⟨r0, r1, r2, r3, r4, b', r5, r6, r7, r8, r9⟩ := s'
  have k1 : 40 ≤ am_k b := by omega
  have k2 : am_k b < 50 := by omega
  have k3 : 40 ≤ am_k b' := by omega
  have k4 : am_k b' < 50 := by omega
  rw [e286 rfl]
  have rl1 : am_real a = true := by unfold am_real; rw [s0]; rfl
  have rl2 : am_real a' = true := by unfold am_real; rw [r0]; rfl
  by_cases e : a = a'
  · subst e
    rw [s5] at r5
    cases r5
    have el : l = l' := by
      apply (eqF_eq (by omega)).mp
      rw [eqF_iff]
      intro j _ hj
      have q1 := s9 j (by omega)
      rw [r9 j (by omega)] at q1
      have q2 := Value.int.inj q1
      have w1 := s4 j (by omega)
      have w2 := r4 j (by omega)
      by_cases c : l.getD j 0 = l'.getD j 0
      · exact c
      · exact absurd q2.symm (i_ne c (by omega) (by omega))
    rw [if_pos el]
    have ec : (a = a) = True := eq_true rfl
    have cm : am_cmpok a a = true := by unfold am_cmpok; rw [rl1]; simp
    simp (disch := (refine id ?_; first | with_reducible assumption | with_unfolding_all exact rfl | with_unfolding_all exact Nat.le_of_ble_eq_true rfl | (simp only [am_cat_nil, am_cat_int, am_cat_ref, am_cat_null, am_cat_long, Nat.reduceAdd, Nat.reduceLeDiff]; done) | omega | exact n_bnd (by omega) (by omega) | exact rfl | fail)) only [z286_0, z286_1, z286_1N, z286_2, z286_2NR, z286_2RN, z286_2NN, z286_5, z286_6, z286_7, z286_7N, z286_8, z286_11, z286_14, z286_14N, z286_15, z286_18, z286_18N, z286_19, z286_22, z286_25, z286_26, z286_29, z286_29N, z286_30, z286_33, z286_36, z286_37, z286_40, z286_40N, z286_41, z286_44, z286_47, z286_50, z286_51, z286_54, z286_55, ec, rl1, ↓reduceIte, am_then_some, am_tl1, am_tl0, i_10, i_00, Int32.shiftRight_zero]
  · have ec : (a = a') = False := eq_false e
    have cm : am_cmpok a a' = true := by unfold am_cmpok; rw [rl1, rl2, decide_eq_true hp]; simp
    have E' : am_M (d + 1) 289 [.ref b, .ref b'] h = some (some (.int (if l = l' then 1 else 0)), h) := by
      rw [e289 rfl rfl]
      by_cases n : l.length = l'.length
      · have A := arr_eq (d := d) (h := h) (b := b) (b' := b') (l := l) (l' := l') s6 r6 s7 (by omega) (by omega) s9 (fun j hj => r9 j (by omega)) s4 (fun j hj => r4 j (by omega)) l.length 0 (by omega)
        have q : (Int32.ofNat l.length = Int32.ofNat l'.length) = True := eq_true (by rw [n])
        have A' : am_G d 289 9 [some (.ref b), some (.ref b'), some (.int 0)] [] h = some (some (.int (if l = l' then 1 else 0)), h) := by
          refine Eq.trans A ?_
          by_cases ee : l = l'
          · rw [if_pos ee, if_pos ((eqF_eq n).mpr ee)]
          · rw [if_neg ee, if_neg (fun z => ee ((eqF_eq n).mp z))]
        rw [← A']
        simp (disch := (refine id ?_; first | with_reducible assumption | with_unfolding_all exact rfl | with_unfolding_all exact Nat.le_of_ble_eq_true rfl | (simp only [am_cat_nil, am_cat_int, am_cat_ref, am_cat_null, am_cat_long, Nat.reduceAdd, Nat.reduceLeDiff]; done) | omega | exact n_bnd (by omega) (by omega) | exact rfl | fail)) only [z289_0, z289_0N, z289_1, z289_2, z289_2N, z289_3, z289_4, z289_7, z289_8, z289_10, z289_10N, z289_11, z289_12, z289_15, z289_15N, z289_16, z289_17, z289_18, z289_18N, z289_19, z289_20, z289_21, z289_24, z289_25, z289_26, z289_29, z289_32, z289_33, z289_34, z289_35, q, s7, r7, ↓reduceIte, am_then_some, am_tl1, am_tl0, i_10, i_00, Int32.shiftRight_zero]
      · rw [if_neg (fun z => n (by rw [z]))]
        have q : (Int32.ofNat l.length = Int32.ofNat l'.length) = False := eq_false (i_ne n (by omega) (by omega))
        simp (disch := (refine id ?_; first | with_reducible assumption | with_unfolding_all exact rfl | with_unfolding_all exact Nat.le_of_ble_eq_true rfl | (simp only [am_cat_nil, am_cat_int, am_cat_ref, am_cat_null, am_cat_long, Nat.reduceAdd, Nat.reduceLeDiff]; done) | omega | exact n_bnd (by omega) (by omega) | exact rfl | fail)) only [z289_0, z289_0N, z289_1, z289_2, z289_2N, z289_3, z289_4, z289_7, z289_8, z289_10, z289_10N, z289_11, z289_12, z289_15, z289_15N, z289_16, z289_17, z289_18, z289_18N, z289_19, z289_20, z289_21, z289_24, z289_25, z289_26, z289_29, z289_32, z289_33, z289_34, z289_35, q, s7, r7, ↓reduceIte, am_then_some, am_tl1, am_tl0, i_10, i_00, Int32.shiftRight_zero]
    by_cases el : l = l'
    · rw [if_pos el] at E' ⊢
      simp (disch := (refine id ?_; first | with_reducible assumption | with_unfolding_all exact rfl | with_unfolding_all exact Nat.le_of_ble_eq_true rfl | (simp only [am_cat_nil, am_cat_int, am_cat_ref, am_cat_null, am_cat_long, Nat.reduceAdd, Nat.reduceLeDiff]; done) | omega | exact n_bnd (by omega) (by omega) | exact rfl | fail)) only [z286_0, z286_1, z286_1N, z286_2, z286_2NR, z286_2RN, z286_2NN, z286_5, z286_6, z286_7, z286_7N, z286_8, z286_11, z286_14, z286_14N, z286_15, z286_18, z286_18N, z286_19, z286_22, z286_25, z286_26, z286_29, z286_29N, z286_30, z286_33, z286_36, z286_37, z286_40, z286_40N, z286_41, z286_44, z286_47, z286_50, z286_51, z286_54, z286_55, ec, rl1, rl2, s5, r5, s1, r1, E', ↓reduceIte, am_then_some, am_tl1, am_tl0, i_10, i_00, Int32.shiftRight_zero]
    · rw [if_neg el] at E' ⊢
      simp (disch := (refine id ?_; first | with_reducible assumption | with_unfolding_all exact rfl | with_unfolding_all exact Nat.le_of_ble_eq_true rfl | (simp only [am_cat_nil, am_cat_int, am_cat_ref, am_cat_null, am_cat_long, Nat.reduceAdd, Nat.reduceLeDiff]; done) | omega | exact n_bnd (by omega) (by omega) | exact rfl | fail)) only [z286_0, z286_1, z286_1N, z286_2, z286_2NR, z286_2RN, z286_2NN, z286_5, z286_6, z286_7, z286_7N, z286_8, z286_11, z286_14, z286_14N, z286_15, z286_18, z286_18N, z286_19, z286_22, z286_25, z286_26, z286_29, z286_29N, z286_30, z286_33, z286_36, z286_37, z286_40, z286_40N, z286_41, z286_44, z286_47, z286_50, z286_51, z286_54, z286_55, ec, rl1, rl2, s5, r5, s1, r1, E', ↓reduceIte, am_then_some, am_tl1, am_tl0, i_10, i_00, Int32.shiftRight_zero]

theorem gp_eq {h : am_H} {a k : Nat} {v : Value} : am_g (am_p h a k v) a k = v := if_pos ⟨rfl, rfl⟩
theorem gp_ne {h : am_H} {a k b j : Nat} {v : Value} (e : ¬ (b = a ∧ j = k)) : am_g (am_p h a k v) b j = am_g h b j := if_neg e
theorem gn_eq {h : am_H} {a n j : Nat} {f : Nat → Value} : am_g (am_new h a n f) a j = f j := if_pos rfl
theorem gn_ne {h : am_H} {a n b j : Nat} {f : Nat → Value} (e : b ≠ a) : am_g (am_new h a n f) b j = am_g h b j := if_neg e
theorem gc_in {h : am_H} {a b sp dp n j : Nat} (h1 : dp ≤ j) (h2 : j < dp + n) : am_g (am_copy h a b sp dp n) b j = am_g h a (sp + (j - dp)) := if_pos ⟨rfl, h1, h2⟩
theorem gc_ne {h : am_H} {a b c sp dp n j : Nat} (e : c ≠ b) : am_g (am_copy h a b sp dp n) c j = am_g h c j := if_neg fun z => e z.1
theorem am_new1 {h : am_H} {a n : Nat} {f : Nat → Value} : (am_new h a n f).1 = h.1 + 1 := rfl
theorem am_new2 {h : am_H} {a n : Nat} {f : Nat → Value} : (am_new h a n f).2.1 = h.2.1 + n := rfl
theorem am_p1 {h : am_H} {a k : Nat} {v : Value} : (am_p h a k v).1 = h.1 := rfl
theorem am_p2 {h : am_H} {a k : Nat} {v : Value} : (am_p h a k v).2.1 = h.2.1 := rfl
theorem am_cp1 {h : am_H} {a b sp dp n : Nat} : (am_copy h a b sp dp n).1 = h.1 := rfl
theorem am_cp2 {h : am_H} {a b sp dp n : Nat} : (am_copy h a b sp dp n).2.1 = h.2.1 := rfl
def cpH (h : am_H) (b i n : Nat) : am_H := am_copy (am_new h (am_a h.1 n 41) n (fun _ => .int 0)) b (am_a h.1 n 41) i 0 n
theorem cp_range {b i e : Nat} (k1 : am_k b = 41) (hi : i ≤ e) (he : e ≤ am_n b) (hb : am_n b < 65536) (hb2 : am_i b < h.1) (hP : am_P ≤ h.1) : am_M (d + 2) 293 [.ref b, .int (Int32.ofNat i), .int (Int32.ofNat e)] h = some (some (.ref (am_a h.1 (e - i) 41)), cpH h b i (e - i)) := by
  have k3 : 40 ≤ am_k b := by omega
  have k4 : am_k b < 50 := by omega
  have q : (Int32.ofNat i ≤ Int32.ofNat e) = True := (n_le (by omega) (by omega)).trans (eq_true (by omega))
  have q1 : am_M (d + 1) 294 [.int (Int32.ofNat i), .int (Int32.ofNat e)] h = some (none, h) := by
    rw [e294]
    simp (disch := (refine id ?_; first | with_reducible assumption | with_unfolding_all exact rfl | with_unfolding_all exact Nat.le_of_ble_eq_true rfl | (simp only [am_cat_nil, am_cat_int, am_cat_ref, am_cat_null, am_cat_long, Nat.reduceAdd, Nat.reduceLeDiff]; done) | omega | exact n_bnd (by omega) (by omega) | exact rfl | fail)) only [z294_0, z294_1, z294_2, z294_8, z294_8I, z294_12, z294_12I, z294_16, z294_26, z294_37, q, ↓reduceIte, am_then_some, am_tl1, am_tl0, i_10, i_00, Int32.shiftRight_zero]
  have sb : Int32.ofNat e - Int32.ofNat i = Int32.ofNat (e - i) := by
    have := (Int32.ofNat_add (e - i) i).symm
    rw [show e - i + i = e by omega] at this
    rw [← this, Int32.add_sub_cancel]
  have sb2 : Int32.ofNat (am_n b) - Int32.ofNat i = Int32.ofNat (am_n b - i) := by
    have := (Int32.ofNat_add (am_n b - i) i).symm
    rw [show am_n b - i + i = am_n b by omega] at this
    rw [← this, Int32.add_sub_cancel]
  have mn : (if Int32.ofNat (e - i) < Int32.ofNat (am_n b - i) then Int32.ofNat (e - i) else Int32.ofNat (am_n b - i)) = Int32.ofNat (e - i) := by
    split
    · rfl
    · rename_i c
      rw [(n_gt (n := am_n b - i) (k := e - i) (by omega) (by omega))] at c
      congr 1; omega
  have t1 : (Int32.ofNat i).toNatClampNeg = i := tn_of (by omega)
  have t2 : (Int32.ofNat (e - i)).toNatClampNeg = e - i := tn_of (by omega)
  have t3 : (0 : Int32).toNatClampNeg = 0 := rfl
  have p1 : ¬ Int32.ofNat (e - i) < 0 := by rw [n_lt0 (by omega)]; exact id
  have p2 : (Int32.ofNat (e - i)).toNatClampNeg ≤ 65536 := by rw [t2]; omega
  have p3 : ¬ Int32.ofNat i < 0 := by rw [n_lt0 (by omega)]; exact id
  have p4 : ¬ (0 : Int32) < 0 := by decide
  have a1 : am_k (am_a h.1 (e - i) 41) = 41 := ama_k (by decide)
  have a2 : b ≠ am_a h.1 (e - i) 41 := ama_ne (by decide) (by omega) hb2
  have a3 : am_P ≤ am_i (am_a h.1 (e - i) 41) := by rw [ama_i (by decide) (by omega)]; exact hP
  have a4 : (Int32.ofNat i).toNatClampNeg + (Int32.ofNat (e - i)).toNatClampNeg ≤ am_n b := by rw [t1, t2]; omega
  have a5 : (0 : Int32).toNatClampNeg + (Int32.ofNat (e - i)).toNatClampNeg ≤ am_n (am_a h.1 (e - i) 41) := by rw [t2, t3, ama_n (by decide) (by omega)]; omega
  rw [e293 rfl]
  simp (disch := (refine id ?_; first | with_reducible assumption | with_unfolding_all exact rfl | with_unfolding_all exact Nat.le_of_ble_eq_true rfl | (simp only [am_cat_nil, am_cat_int, am_cat_ref, am_cat_null, am_cat_long, Nat.reduceAdd, Nat.reduceLeDiff]; done) | omega | exact n_bnd (by omega) (by omega) | exact rfl | fail)) only [z293_0, z293_1, z293_2, z293_5, z293_6, z293_7, z293_8, z293_9, z293_10, z293_12, z293_12N, z293_14, z293_14N, z293_15, z293_16, z293_16N, z293_18, z293_19, z293_19N, z293_20, z293_21, z293_22, z293_23, z293_24, z293_27, z293_30, z293_30N, z293_32, q1, sb, sb2, t1, t2, t3, mn, ↓reduceIte, am_then_some, am_tl1, am_tl0, i_10, i_00, Int32.shiftRight_zero]
  rfl
def subH (h : am_H) (b i n : Nat) : am_H := am_p (am_p (cpH (am_new h (am_a h.1 0 19) 4 (fun k => defaultValue (am_ty 19 k))) b i n) (am_a h.1 0 19) 0 (.ref (am_a (h.1 + 1) n 41))) (am_a h.1 0 19) 1 (.int 0)
theorem subH_def {b i n : Nat} : subH h b i n = am_p (am_p (am_copy (am_new (am_new h (am_a h.1 0 19) 4 (fun k => defaultValue (am_ty 19 k))) (am_a (h.1 + 1) n 41) n (fun _ => .int 0)) b (am_a (h.1 + 1) n 41) i 0 n) (am_a h.1 0 19) 0 (.ref (am_a (h.1 + 1) n 41))) (am_a h.1 0 19) 1 (.int 0) := by
  unfold subH cpH
  rw [am_new1]
theorem subH_g {b i n x k : Nat} (h1 : x ≠ am_a h.1 0 19) (h2 : x ≠ am_a (h.1 + 1) n 41) : am_g (subH h b i n) x k = am_g h x k := by
  rw [subH_def, gp_ne (fun e => h1 e.1), gp_ne (fun e => h1 e.1), gc_ne h2, gn_ne h2, gn_ne h1]
theorem subH_1 {b i n : Nat} : (subH h b i n).1 = h.1 + 2 := by rw [subH_def, am_p1, am_p1, am_cp1, am_new1, am_new1]
theorem subH_2 {b i n : Nat} : (subH h b i n).2.1 = h.2.1 + 4 + n := by rw [subH_def, am_p2, am_p2, am_cp2, am_new2, am_new2]
theorem str_mono {h' : am_H} {a : Nat} {l : List Nat} (s : STR h a l) (h1 : h.1 ≤ h'.1) (hs : ∀ x k, am_i x < h.1 → am_k x = 19 ∨ am_k x = 41 → am_g h' x k = am_g h x k) : STR h' a l := by
  obtain ⟨s0, s1, s2, s3, s4, b, s5, s6, s7, s8, s9⟩ := s
  refine ⟨s0, ?_, by omega, s3, s4, b, ?_, s6, s7, by omega, fun j hj => ?_⟩
  · rw [hs _ _ s2 (Or.inl s0)]; exact s1
  · rw [hs _ _ s2 (Or.inl s0)]; exact s5
  · rw [hs _ _ s8 (Or.inr s6)]; exact s9 j hj
theorem subH_str {a b : Nat} {l : List Nat} {i e : Nat} (s : STR h a l) (hb : am_g h a 0 = .ref b) (hi : i < e) (he : e ≤ l.length) : STR (subH h b i (e - i)) (am_a h.1 0 19) ((l.drop i).take (e - i)) := by
  obtain ⟨s0, s1, s2, s3, s4, b', s5, s6, s7, s8, s9⟩ := s
  rw [hb] at s5
  cases s5
  have ln : ((l.drop i).take (e - i)).length = e - i := by rw [List.length_take, List.length_drop]; omega
  have gd : ∀ j, j < e - i → ((l.drop i).take (e - i)).getD j 0 = l.getD (i + j) 0 := by
    intro j hj
    rw [List.getD_eq_getElem?_getD, List.getD_eq_getElem?_getD, List.getElem?_take, if_pos hj, List.getElem?_drop]
  have AB : am_a (h.1 + 1) (e - i) 41 ≠ am_a h.1 0 19 := fun z => by
    have := congrArg am_i z
    rw [ama_i (by decide) (by omega), ama_i (by decide) (by omega)] at this; omega
  obtain ⟨A, hA⟩ : ∃ A, A = am_a h.1 0 19 := ⟨_, rfl⟩
  obtain ⟨B, hB⟩ : ∃ B, B = am_a (h.1 + 1) (e - i) 41 := ⟨_, rfl⟩
  have kA : am_k A = 19 := by rw [hA]; exact ama_k (by decide)
  have iA : am_i A = h.1 := by rw [hA]; exact ama_i (by decide) (by decide)
  have kB : am_k B = 41 := by rw [hB]; exact ama_k (by decide)
  have iB : am_i B = h.1 + 1 := by rw [hB]; exact ama_i (by decide) (by omega)
  have nB : am_n B = e - i := by rw [hB]; exact ama_n (by decide) (by omega)
  have bA : b ≠ A := fun z => by rw [z, iA] at s8; omega
  have bB : b ≠ B := fun z => by rw [z, iB] at s8; omega
  have e1 := subH_1 (h := h) (b := b) (i := i) (n := e - i)
  have ed := subH_def (h := h) (b := b) (i := i) (n := e - i)
  rw [← hA, ← hB] at ed AB
  rw [← hA]
  refine ⟨kA, ?_, by omega, by omega, fun j hj => ?_, B, ?_, kB, by omega, by omega, fun j hj => ?_⟩
  · rw [ed, gp_eq]
  · rw [gd j (by omega)]; exact s4 _ (by omega)
  · rw [ed, gp_ne (by simp), gp_eq]
  · rw [ln] at hj
    rw [ed, gp_ne (fun z => AB z.1), gp_ne (fun z => AB z.1), gc_in (by omega) (by omega), gn_ne bB, gn_ne bA, gd j hj, show i + (j - 0) = i + j by omega]
    exact s9 _ (by omega)
theorem str_sub {a : Nat} {l : List Nat} {i e : Nat} (s : STR h a l) (hi : i < e) (he : e ≤ l.length) (hw : ¬ (i = 0 ∧ e = l.length)) (hP : am_P ≤ h.1) :
    ∃ h', am_M (d + 6) 282 [.ref a, .int (Int32.ofNat i), .int (Int32.ofNat e)] h = some (some (.ref (am_a h.1 0 19)), h') ∧ h'.1 = h.1 + 2 ∧ h'.2.1 = h.2.1 + 4 + (e - i) ∧ STR h' (am_a h.1 0 19) ((l.drop i).take (e - i)) ∧ ∀ x k, am_i x < h.1 → am_g h' x k = am_g h x k := by
  have qc := str_lat (d := d + 4) s
  have ql := str_len (d := d + 3) s
  obtain ⟨s0, s1, s2, s3, s4, b, s5, s6, s7, s8, s9⟩ := s
  have hg : ∀ x k, am_i x < h.1 → am_g (subH h b i (e - i)) x k = am_g h x k := fun x k hx => subH_g (ama_ne (by decide) (by decide) hx) (ama_ne (by decide) (by omega) (by omega))
  refine ⟨subH h b i (e - i), ?_, subH_1, subH_2, ?_, hg⟩
  · have q1 : (Int32.ofNat i < 0) = False := n_lt0 (by omega)
    have q2 : (Int32.ofNat e < Int32.ofNat i) = False := (n_gt (by omega) (by omega)).trans (eq_false (by omega))
    have q3 : (Int32.ofNat e ≤ Int32.ofNat l.length) = True := (n_le (by omega) (by omega)).trans (eq_true (by omega))
    have r1 : am_M (d + 4) 291 [.int (Int32.ofNat i), .int (Int32.ofNat e), .int (Int32.ofNat l.length), .ref 50331711] h = some (some (.int (Int32.ofNat i)), h) := by
      rw [e291 rfl]
      simp (disch := (refine id ?_; first | with_reducible assumption | with_unfolding_all exact rfl | with_unfolding_all exact Nat.le_of_ble_eq_true rfl | (simp only [am_cat_nil, am_cat_int, am_cat_ref, am_cat_null, am_cat_long, Nat.reduceAdd, Nat.reduceLeDiff]; done) | omega | exact n_bnd (by omega) (by omega) | exact rfl | fail)) only [z291_0, z291_1, z291_4, z291_5, z291_6, z291_9, z291_10, z291_11, z291_14, z291_14N, z291_15, z291_16, z291_17, z291_22, z291_23, q1, q2, q3, ↓reduceIte, am_then_some, am_tl1, am_tl0, i_10, i_00, Int32.shiftRight_zero]
    have r2 : am_M (d + 5) 283 [.int (Int32.ofNat i), .int (Int32.ofNat e), .int (Int32.ofNat l.length)] h = some (none, h) := by
      rw [e283]
      simp (disch := (refine id ?_; first | with_reducible assumption | with_unfolding_all exact rfl | with_unfolding_all exact Nat.le_of_ble_eq_true rfl | (simp only [am_cat_nil, am_cat_int, am_cat_ref, am_cat_null, am_cat_long, Nat.reduceAdd, Nat.reduceLeDiff]; done) | omega | exact n_bnd (by omega) (by omega) | exact rfl | fail)) only [z283_0, z283_1, z283_2, z283_3, z283_6, z283_9, z283_9I, z283_10, r1, ↓reduceIte, am_then_some, am_tl1, am_tl0, i_10, i_00, Int32.shiftRight_zero]
    have sb : Int32.ofNat e - Int32.ofNat i = Int32.ofNat (e - i) := by
      have := (Int32.ofNat_add (e - i) i).symm
      rw [show e - i + i = e by omega] at this
      rw [← this, Int32.add_sub_cancel]
    have sa : Int32.ofNat i + Int32.ofNat (e - i) = Int32.ofNat e := by rw [n_add]; congr 1; omega
    obtain ⟨h1, hh1⟩ : ∃ x, x = am_new h (am_a h.1 0 19) 4 (fun k => defaultValue (am_ty 19 k)) := ⟨_, rfl⟩
    have hc1 : h1.1 = h.1 + 1 := by rw [hh1]; rfl
    have r3 := cp_range (d := d + 1) (h := h1) (b := b) (i := i) (e := e) s6 (by omega) (by omega) (by omega) (by omega) (by omega)
    rw [hc1] at r3
    have z1 : (Int32.ofNat (e - i) = 0) = False := eq_false (i_ne (k := 0) (by omega) (by omega) (by decide))
    have z2 : (Int32.ofNat i = 0) = (i = 0) := by
      by_cases c : i = 0
      · subst c; simp
      · rw [eq_false c]; exact eq_false (i_ne (k := 0) c (by omega) (by decide))
    have z3 : (Int32.ofNat e = Int32.ofNat l.length) = (e = l.length) := by
      by_cases c : e = l.length
      · rw [c]; simp
      · rw [eq_false c]; exact eq_false (i_ne c (by omega) (by omega))
    have r4 : am_M (d + 3 + 1) 292 [.ref b, .int (Int32.ofNat i), .int (Int32.ofNat e)] h1 = some (some (.ref (am_a (h.1 + 1) (e - i) 41)), cpH h1 b i (e - i)) := by
      have k3 : 40 ≤ am_k b := by omega
      have k4 : am_k b < 50 := by omega
      rw [e292 rfl]
      by_cases c : i = 0
      · have c2 : (Int32.ofNat e = Int32.ofNat (am_n b)) = False := by rw [s7, z3]; exact eq_false (fun z => hw ⟨c, z⟩)
        rw [eq_true c] at z2
        simp (disch := (refine id ?_; first | with_reducible assumption | with_unfolding_all exact rfl | with_unfolding_all exact Nat.le_of_ble_eq_true rfl | (simp only [am_cat_nil, am_cat_int, am_cat_ref, am_cat_null, am_cat_long, Nat.reduceAdd, Nat.reduceLeDiff]; done) | omega | exact n_bnd (by omega) (by omega) | exact rfl | fail)) only [z292_0, z292_1, z292_4, z292_5, z292_5N, z292_6, z292_7, z292_10, z292_10N, z292_11, z292_12, z292_13, z292_16, z292_17, z292_17N, z292_24, z2, c2, r3, ↓reduceIte, am_then_some, am_tl1, am_tl0, i_10, i_00, Int32.shiftRight_zero]
      · rw [eq_false c] at z2
        simp (disch := (refine id ?_; first | with_reducible assumption | with_unfolding_all exact rfl | with_unfolding_all exact Nat.le_of_ble_eq_true rfl | (simp only [am_cat_nil, am_cat_int, am_cat_ref, am_cat_null, am_cat_long, Nat.reduceAdd, Nat.reduceLeDiff]; done) | omega | exact n_bnd (by omega) (by omega) | exact rfl | fail)) only [z292_0, z292_1, z292_4, z292_5, z292_5N, z292_6, z292_7, z292_10, z292_10N, z292_11, z292_12, z292_13, z292_16, z292_17, z292_17N, z292_24, z2, r3, ↓reduceIte, am_then_some, am_tl1, am_tl0, i_10, i_00, Int32.shiftRight_zero]
    have a1 : am_k (am_a h.1 0 19) = 19 := ama_k (by decide)
    have a2 : am_real (am_a h.1 0 19) = true := by unfold am_real; rw [a1]; rfl
    have a3 : am_P ≤ am_i (am_a h.1 0 19) := by rw [ama_i (by decide) (by decide)]; exact hP
    have r5 : ∀ hx : am_H, am_M (d + 4) 284 [.ref (am_a h.1 0 19), .ref (am_a (h.1 + 1) (e - i) 41), .int 0] hx = some (none, am_p (am_p hx (am_a h.1 0 19) 0 (.ref (am_a (h.1 + 1) (e - i) 41))) (am_a h.1 0 19) 1 (.int 0)) := by
      intro hx
      rw [e284 rfl]
      simp (disch := (refine id ?_; first | with_reducible assumption | with_unfolding_all exact rfl | with_unfolding_all exact Nat.le_of_ble_eq_true rfl | (simp only [am_cat_nil, am_cat_int, am_cat_ref, am_cat_null, am_cat_long, Nat.reduceAdd, Nat.reduceLeDiff]; done) | omega | exact n_bnd (by omega) (by omega) | exact rfl | fail)) only [z284_0, z284_1, z284_4, z284_5, z284_5N, z284_6, z284_6N, z284_9, z284_10, z284_11, z284_14, ↓reduceIte, am_then_some, am_tl1, am_tl0, i_10, i_00, Int32.shiftRight_zero]
    have r6 : am_M (d + 5) 288 [.ref b, .int (Int32.ofNat i), .int (Int32.ofNat (e - i))] h = some (some (.ref (am_a h.1 0 19)), subH h b i (e - i)) := by
      rw [e288 rfl]
      simp (disch := (refine id ?_; first | with_reducible assumption | with_unfolding_all exact rfl | with_unfolding_all exact Nat.le_of_ble_eq_true rfl | (simp only [am_cat_nil, am_cat_int, am_cat_ref, am_cat_null, am_cat_long, Nat.reduceAdd, Nat.reduceLeDiff]; done) | omega | exact n_bnd (by omega) (by omega) | exact rfl | fail)) only [z288_0, z288_1, z288_4, z288_6, z288_6N, z288_7, z288_10, z288_10I, z288_11, z288_11N, z288_12, z288_13, z288_14, z288_15, z288_16, z288_19, z288_20, z288_23, z288_23N, z1, sa, hc1, ← hh1, r4, r5, ↓reduceIte, am_then_some, am_tl1, am_tl0, i_10, i_00, Int32.shiftRight_zero]
      rw [hh1]
      rfl
    rw [e282]
    by_cases c : i = 0
    · rw [eq_true c] at z2
      rw [eq_false (fun z => hw ⟨c, z⟩)] at z3
      simp (disch := (refine id ?_; first | with_reducible assumption | with_unfolding_all exact rfl | with_unfolding_all exact Nat.le_of_ble_eq_true rfl | (simp only [am_cat_nil, am_cat_int, am_cat_ref, am_cat_null, am_cat_long, Nat.reduceAdd, Nat.reduceLeDiff]; done) | omega | exact n_bnd (by omega) (by omega) | exact rfl | fail)) only [z282_0, z282_1, z282_4, z282_5, z282_6, z282_7, z282_8, z282_11, z282_12, z282_15, z282_16, z282_17, z282_20, z282_21, z282_21N, z282_22, z282_23, z282_24, z282_25, z282_27, z282_28, z282_31, z282_34, z282_35, z282_38, z282_39, z282_41, z282_44, z282_47, z282_48, z282_51, z282_52, z282_57, z282_57N, qc, ql, r2, z2, z3, sb, s5, r6, ↓reduceIte, am_then_some, am_tl1, am_tl0, i_10, i_00, Int32.shiftRight_zero]
    · rw [eq_false c] at z2
      simp (disch := (refine id ?_; first | with_reducible assumption | with_unfolding_all exact rfl | with_unfolding_all exact Nat.le_of_ble_eq_true rfl | (simp only [am_cat_nil, am_cat_int, am_cat_ref, am_cat_null, am_cat_long, Nat.reduceAdd, Nat.reduceLeDiff]; done) | omega | exact n_bnd (by omega) (by omega) | exact rfl | fail)) only [z282_0, z282_1, z282_4, z282_5, z282_6, z282_7, z282_8, z282_11, z282_12, z282_15, z282_16, z282_17, z282_20, z282_21, z282_21N, z282_22, z282_23, z282_24, z282_25, z282_27, z282_28, z282_31, z282_34, z282_35, z282_38, z282_39, z282_41, z282_44, z282_47, z282_48, z282_51, z282_52, z282_57, z282_57N, qc, ql, r2, z2, z3, sb, s5, r6, ↓reduceIte, am_then_some, am_tl1, am_tl0, i_10, i_00, Int32.shiftRight_zero]
  · exact subH_str (a := a) ⟨s0, s1, s2, s3, s4, b, s5, s6, s7, s8, s9⟩ s5 hi he
theorem str_sub1 {a : Nat} {l : List Nat} {i : Nat} (s : STR h a l) (hi : i < l.length) (h0 : 0 < i) (hP : am_P ≤ h.1) :
    ∃ h', am_M (d + 7) 285 [.ref a, .int (Int32.ofNat i)] h = some (some (.ref (am_a h.1 0 19)), h') ∧ h'.1 = h.1 + 2 ∧ h'.2.1 = h.2.1 + 4 + (l.length - i) ∧ STR h' (am_a h.1 0 19) (l.drop i) ∧ ∀ x k, am_i x < h.1 → am_g h' x k = am_g h x k := by
  obtain ⟨h', e1, e2, e3, e4, e5⟩ := str_sub (d := d) (i := i) (e := l.length) s hi (Nat.le_refl _) (by omega) hP
  have ql := str_len (d := d + 4) s
  have s0 := s.1
  refine ⟨h', ?_, e2, e3, ?_, e5⟩
  · rw [e285]
    simp (disch := (refine id ?_; first | with_reducible assumption | with_unfolding_all exact rfl | with_unfolding_all exact Nat.le_of_ble_eq_true rfl | (simp only [am_cat_nil, am_cat_int, am_cat_ref, am_cat_null, am_cat_long, Nat.reduceAdd, Nat.reduceLeDiff]; done) | omega | exact n_bnd (by omega) (by omega) | exact rfl | fail)) only [z285_0, z285_1, z285_2, z285_3, z285_6, z285_9, z285_9N, ql, e1, ↓reduceIte, am_then_some, am_tl1, am_tl0, i_10, i_00, Int32.shiftRight_zero]
  · rw [List.take_of_length_le (by rw [List.length_drop]; omega)] at e4
    exact e4

end
