/-! texts of the assembler: read, entry (printed by gen/kasm3.py) -/
set_option maxRecDepth 100000
set_option maxHeartbeats 1000000
theorem tokOk_8 {t : List Nat} (h : tokOk t = true) : (∀ j, t.getD j 0 < 128) ∧ 2 ≤ t.length ∧ t.length < 100 := by
  unfold tokOk at h
  simp only [Bool.and_eq_true, decide_eq_true_eq, List.all_eq_true] at h
  refine ⟨fun j => ?_, h.1.1.1, h.1.1.2⟩
  by_cases q : j < t.length
  · exact h.1.2 _ (getD_mem q)
  · rw [List.getD_eq_getElem?_getD, List.getElem?_eq_none (by omega)]
    exact Nat.le_of_ble_eq_true rfl
theorem tk_ok {g : Nat → Nat → Value} {c0 s0 he : Nat} {kb : Nat → Int32} {nm : Nat → Value} {pc : Nat → Int32} {N : List (List Nat × Nat)} {f : Bool} {a d : Nat} {t : List Nat} (ht : tokOk t = true) (S : STK (HA g c0 s0 N.length he (if f = true then 1 else 0) kb nm pc) a t) (hp_ : am_P ≤ am_i a) (hN : NAM (HA g c0 s0 N.length he (if f = true then 1 else 0) kb nm pc) N nm pc) (hn : N.length < 95) (hh : he + 2 < 2048) (hc : 440 ≤ c0) : ∃ g' nm' pc', am_M (d + 9) 202 [.ref 7264534539, .ref a] (HA g c0 s0 N.length he (if f = true then 1 else 0) kb nm pc) = some (none, HA g' (c0 + asC f t) (s0 + asS f t) (asN f N he t).length (he + (asE N he t).length) (if f = true then 1 else 0) (lay kb he ((asE N he t).map sb)) nm' pc') ∧ NAM (HA g' (c0 + asC f t) (s0 + asS f t) (asN f N he t).length (he + (asE N he t).length) (if f = true then 1 else 0) (lay kb he ((asE N he t).map sb)) nm' pc') (asN f N he t) nm' pc' ∧ FRM (HA g c0 s0 N.length he (if f = true then 1 else 0) kb nm pc) (HA g' (c0 + asC f t) (s0 + asS f t) (asN f N he t).length (he + (asE N he t).length) (if f = true then 1 else 0) (lay kb he ((asE N he t).map sb)) nm' pc') := by
  obtain ⟨h8, hl, hl2⟩ := tokOk_8 ht
  by_cases z : t.getD (t.length - 1) 0 = 58
  · exact tk_lab S hp_ hN hn hh hc h8 hl hl2 z (by omega)
  by_cases q1 : t.getD 0 0 = 61
  · exact tk_eq S hp_ hN hn hh hc h8 hl hl2 z q1
  by_cases q2 : t.getD 0 0 = 126
  · exact tk_til S hp_ hN hn hh hc h8 hl hl2 z q2
  unfold tokOk at ht
  simp only [Bool.and_eq_true, Bool.or_eq_true, decide_eq_true_eq, beq_iff_eq, List.all_eq_true] at ht
  rcases ht.2 with (((u | u) | u) | u) | u
  · exact absurd u z
  · exact absurd u q1
  · exact absurd u q2
  · refine tk_num S hp_ hN hn hh hc h8 hl hl2 z u.1.1 (fun j h0 h1 => ?_) (by omega)
    have m : t.getD j 0 ∈ t.drop 1 := by
      rw [List.mem_iff_getElem]
      refine ⟨j - 1, by rw [List.length_drop]; omega, ?_⟩
      rw [List.getElem_drop, List.getD_eq_getElem?_getD, List.getElem?_eq_getElem h1]
      show t[1 + (j - 1)] = t[j]
      congr 1
      omega
    exact u.1.2 _ m
  · exact tk_hex S hp_ hN hn hh hc h8 hl hl2 u.1.1 u.1.2 u.2
def jn : List (List Nat) → List Nat
  | [] => []
  | [t] => t
  | t :: r => t ++ 32 :: jn r
theorem jn_c {t : List Nat} {r : List (List Nat)} (h : r ≠ []) : jn (t :: r) = t ++ 32 :: jn r := by
  cases r with
  | nil => exact absurd rfl h
  | cons a b => rfl
def asG (f : Bool) : List (List Nat × Nat) → Nat → List (List Nat) → List (List Nat × Nat) × List Int32
  | N, _, [] => (N, [])
  | N, h, t :: r => ((asG f (asN f N h t) (h + (asE N h t).length) r).1, asE N h t ++ (asG f (asN f N h t) (h + (asE N h t).length) r).2)
def asCs (f : Bool) : List (List Nat) → Nat
  | [] => 0
  | t :: r => 2 + asC f t + asCs f r
def asSs (f : Bool) : List (List Nat) → Nat
  | [] => 0
  | t :: r => 4 + t.length + asS f t + asSs f r
theorem asN_le {f : Bool} {N : List (List Nat × Nat)} {h : Nat} {t : List Nat} : N.length ≤ (asN f N h t).length := by
  unfold asN
  split
  · split
    · rw [List.length_append]; omega
    · exact Nat.le_refl _
  · exact Nat.le_refl _
theorem asG_le {f : Bool} : ∀ (ts : List (List Nat)) (N : List (List Nat × Nat)) (h : Nat), N.length ≤ (asG f N h ts).1.length := by
  intro ts
  induction ts with
  | nil => intro N h; exact Nat.le_refl _
  | cons t r ih =>
    intro N h
    exact Nat.le_trans asN_le (ih _ _)
theorem asE_le {N : List (List Nat × Nat)} {h : Nat} {t : List Nat} : (asE N h t).length ≤ 2 := by
  unfold asE
  repeat' split
  all_goals exact Nat.le_of_ble_eq_true rfl
theorem rd_scan {g : Nat → Nat → Value} {c0 s0 he : Nat} {kb : Nat → Int32} {nm : Nat → Value} {pc : Nat → Int32} {N : List (List Nat × Nat)} {f : Bool} {a d : Nat} {l : List Nat} {at_ e : Nat} (S : STK (HA g c0 s0 N.length he (if f = true then 1 else 0) kb nm pc) a l) (he_ : e ≤ l.length) (hz : e < l.length → l.getD e 0 = 32) : ∀ (m i : Nat), i + m = e → (∀ j, i ≤ j → j < e → l.getD j 0 ≠ 32) →
    am_G (d + 9) 201 12 [some (.ref 7264534539), some (.ref a), some (.int (Int32.ofNat at_)), some (.int (Int32.ofNat i))] [] (HA g c0 s0 N.length he (if f = true then 1 else 0) kb nm pc) = am_G (d + 9) 201 36 [some (.ref 7264534539), some (.ref a), some (.int (Int32.ofNat at_)), some (.int (Int32.ofNat e))] [] (HA g c0 s0 N.length he (if f = true then 1 else 0) kb nm pc) := by
  have sk := S.1.1
  have L := str_len (d := d + 7) S.1
  have ll := S.2
  obtain ⟨-, -, -, -, l8, -⟩ := id S.1
  intro m
  induction m with
  | zero =>
    intro i hm hj
    have ei : i = e := hm
    subst ei
    by_cases q : i < l.length
    · have c1 : (Int32.ofNat l.length ≤ Int32.ofNat i) = False := (n_le (by omega) (by omega)).trans (eq_false (by omega))
      have A := str_at (j := i) (d := d + 5) S.1 q
      rw [hz q] at A
      have A : am_M (d + 9) 279 [.ref a, .int (Int32.ofNat i)] (HA g c0 s0 N.length he (if f = true then 1 else 0) kb nm pc) = some (some (.int 32), (HA g c0 s0 N.length he (if f = true then 1 else 0) kb nm pc)) := A
      rw [z201_12]
      simp (disch := (refine id ?_; first | with_reducible assumption | exact Nat.ne_of_beq_eq_false rfl | with_unfolding_all exact rfl | with_unfolding_all exact Nat.le_of_ble_eq_true rfl | (simp only [am_cat_nil, am_cat_int, am_cat_ref, am_cat_null, am_cat_long, Nat.reduceAdd, Nat.reduceLeDiff]; done) | omega | exact i_bnd2 (by simp only [am_n, Nat.reduceDiv, Nat.reduceMod, Nat.reduceMul, Nat.reduceAdd]; omega) | decide | fail)) only [z201_13, z201_13N, z201_14, z201_17, z201_20, z201_20N, z201_21, z201_22, z201_25, z201_27, z201_30, z201_33, HA_r0, HA_r1, HA_r2, HA_r3, HA_r4, HA_r5, HA_a0, HA_a1, HA_a2, HA_w3, HA_w4, HA_w5, HA_b0, HA_b1, HA_b2, sk, L, c1, A, ↓am_kc_f, am_kc_s, ↓reduceIte, i_10, i_00, i_eqll, i_lell, Nat.reduceEqDiff, Nat.reduceLeDiff, am_then_some, am_tl1, am_tl0, List.nil_append, Nat.reduceAdd, ad2]
    · have c1 : (Int32.ofNat l.length ≤ Int32.ofNat i) = True := (n_le (by omega) (by omega)).trans (eq_true (by omega))
      rw [z201_12]
      simp (disch := (refine id ?_; first | with_reducible assumption | exact Nat.ne_of_beq_eq_false rfl | with_unfolding_all exact rfl | with_unfolding_all exact Nat.le_of_ble_eq_true rfl | (simp only [am_cat_nil, am_cat_int, am_cat_ref, am_cat_null, am_cat_long, Nat.reduceAdd, Nat.reduceLeDiff]; done) | omega | exact i_bnd2 (by simp only [am_n, Nat.reduceDiv, Nat.reduceMod, Nat.reduceMul, Nat.reduceAdd]; omega) | decide | fail)) only [z201_13, z201_13N, z201_14, z201_17, z201_20, z201_20N, z201_21, z201_22, z201_25, z201_27, z201_30, z201_33, HA_r0, HA_r1, HA_r2, HA_r3, HA_r4, HA_r5, HA_a0, HA_a1, HA_a2, HA_w3, HA_w4, HA_w5, HA_b0, HA_b1, HA_b2, sk, L, c1, ↓am_kc_f, am_kc_s, ↓reduceIte, i_10, i_00, i_eqll, i_lell, Nat.reduceEqDiff, Nat.reduceLeDiff, am_then_some, am_tl1, am_tl0, List.nil_append, Nat.reduceAdd, ad2]
  | succ m ih =>
    intro i hm hj
    have c1 : (Int32.ofNat l.length ≤ Int32.ofNat i) = False := (n_le (by omega) (by omega)).trans (eq_false (by omega))
    have A := str_at (j := i) (d := d + 5) S.1 (by omega)
    obtain ⟨x, ex⟩ : ∃ x, l.getD i 0 = x := ⟨_, rfl⟩
    have hx_ := hj i (Nat.le_refl _) (by omega)
    have h8 := l8 i (by omega)
    rw [ex] at A hx_ h8
    have c2 : (Int32.ofNat x = 32) = False := (n_eql x 32 (by omega) (by decide)).trans (eq_false hx_)
    have k1 : Int32.ofNat i + 1 = Int32.ofNat (i + 1) := n_add (y := 1)
    have I := ih (i + 1) (by omega) (fun j h1 h2 => hj j (by omega) h2)
    rw [z201_12]
    simp (disch := (refine id ?_; first | with_reducible assumption | exact Nat.ne_of_beq_eq_false rfl | with_unfolding_all exact rfl | with_unfolding_all exact Nat.le_of_ble_eq_true rfl | (simp only [am_cat_nil, am_cat_int, am_cat_ref, am_cat_null, am_cat_long, Nat.reduceAdd, Nat.reduceLeDiff]; done) | omega | exact i_bnd2 (by simp only [am_n, Nat.reduceDiv, Nat.reduceMod, Nat.reduceMul, Nat.reduceAdd]; omega) | decide | fail)) only [z201_13, z201_13N, z201_14, z201_17, z201_20, z201_20N, z201_21, z201_22, z201_25, z201_27, z201_30, z201_33, HA_r0, HA_r1, HA_r2, HA_r3, HA_r4, HA_r5, HA_a0, HA_a1, HA_a2, HA_w3, HA_w4, HA_w5, HA_b0, HA_b1, HA_b2, sk, L, c1, c2, A, k1, I, ↓am_kc_f, am_kc_s, ↓reduceIte, i_10, i_00, i_eqll, i_lell, Nat.reduceEqDiff, Nat.reduceLeDiff, am_then_some, am_tl1, am_tl0, List.nil_append, Nat.reduceAdd, ad2]
theorem rd_loop {f : Bool} {a d : Nat} {l : List Nat} : ∀ (ts : List (List Nat)) (pre : List Nat) (g : Nat → Nat → Value) (c0 s0 he : Nat) (kb : Nat → Int32) (nm : Nat → Value) (pc : Nat → Int32) (N : List (List Nat × Nat)), l = pre ++ jn ts → ts ≠ [] → ¬ (pre = [] ∧ ts.length = 1) → STK (HA g c0 s0 (N).length he (if f = true then 1 else 0) kb nm pc) a l → (∀ t ∈ ts, tokOk t = true ∧ ∀ x ∈ t, x ≠ 32) → NAM (HA g c0 s0 (N).length he (if f = true then 1 else 0) kb nm pc) N nm pc → (asG f N he ts).1.length < 95 → he + (asG f N he ts).2.length + 2 < 2048 → 440 ≤ c0 →
    ∃ g' nm' pc', ∀ z0, am_G (d + 9) 201 2 [some (.ref 7264534539), some (.ref a), some (.int (Int32.ofNat pre.length)), z0] [] (HA g c0 s0 N.length he (if f = true then 1 else 0) kb nm pc) = some (none, HA g' (c0 + asCs f ts) (s0 + asSs f ts) (asG f N he ts).1.length (he + (asG f N he ts).2.length) (if f = true then 1 else 0) (lay kb he ((asG f N he ts).2.map sb)) nm' pc') ∧ NAM (HA g' (c0 + asCs f ts) (s0 + asSs f ts) (asG f N he ts).1.length (he + (asG f N he ts).2.length) (if f = true then 1 else 0) (lay kb he ((asG f N he ts).2.map sb)) nm' pc') (asG f N he ts).1 nm' pc' ∧ FRM (HA g c0 s0 N.length he (if f = true then 1 else 0) kb nm pc) (HA g' (c0 + asCs f ts) (s0 + asSs f ts) (asG f N he ts).1.length (he + (asG f N he ts).2.length) (if f = true then 1 else 0) (lay kb he ((asG f N he ts).2.map sb)) nm' pc') := by
  intro ts
  induction ts with
  | nil => intro pre g c0 s0 he kb nm pc N _ h; exact absurd rfl h
  | cons t r ih =>
    intro pre g c0 s0 he kb nm pc N el _ hw S hT hN hb hh hc
    have sk := S.1.1
    have L := str_len (d := d + 7) S.1
    have ll := S.2
    obtain ⟨t1, t2⟩ := hT t (List.mem_cons_self)
    obtain ⟨h8, hl, hl2⟩ := tokOk_8 t1
    have lens : l.length = pre.length + (jn (t :: r)).length := by rw [el, List.length_append]
    have jl : t.length ≤ (jn (t :: r)).length := by
      cases r with
      | nil => exact Nat.le_refl _
      | cons a b => rw [jn_c (by simp), List.length_append]; omega
    have gat : ∀ j, j < t.length → l.getD (pre.length + j) 0 = t.getD j 0 := fun j hj => by
      rw [el, getD_app]
      cases r with
      | nil => rfl
      | cons a b => rw [jn_c (by simp)]; exact getD_appl hj
    have gz_ : pre.length + t.length < l.length → l.getD (pre.length + t.length) 0 = 32 := fun hj => by
      rw [el, getD_app]
      cases r with
      | nil =>
        have : (jn [t]).length = t.length := rfl
        omega
      | cons a b =>
        rw [jn_c (by simp)]
        have := getD_app (l := t) (r := 32 :: jn (a :: b)) (k := 0)
        rw [Nat.add_zero] at this
        rw [this]
        rfl
    have SC := rd_scan (d := d) (at_ := pre.length) (e := pre.length + t.length) S (by omega) gz_ t.length pre.length rfl (fun j h1 h2 => by
      have := gat (j - pre.length) (by omega)
      rw [show pre.length + (j - pre.length) = j by omega] at this
      rw [this]
      exact t2 _ (getD_mem (by omega)))
    have nw : ¬ (pre.length = 0 ∧ pre.length + t.length = l.length) := fun z => by
      have p0 : pre = [] := List.eq_nil_of_length_eq_zero z.1
      have r0 : r = [] := by
        cases r with
        | nil => rfl
        | cons a b =>
          have : (jn (t :: a :: b)).length = t.length + (1 + (jn (a :: b)).length) := by
            rw [jn_c (by simp), List.length_append, List.length_cons]; omega
          omega
      exact hw ⟨p0, by rw [r0]; rfl⟩
    obtain ⟨g1, b1, b2, b3⟩ := k_sub (d := d + 3) (i := pre.length) (e := pre.length + t.length) S (by omega) (by omega) nw hc
    have tk_ : (l.drop pre.length).take (pre.length + t.length - pre.length) = t := by
      rw [el, List.drop_left, show pre.length + t.length - pre.length = t.length by omega]
      cases r with
      | nil => exact List.take_length
      | cons a b => rw [jn_c (by simp), List.take_left]
    rw [tk_] at b2
    have eS : s0 + 4 + (pre.length + t.length - pre.length) = s0 + 4 + t.length := by omega
    rw [eS] at b1 b2 b3
    have N1 := NAM_m hN (by show c0 ≤ c0 + 2; omega) b3
    have G1 : (asG f N he (t :: r)).1 = (asG f (asN f N he t) (he + (asE N he t).length) r).1 := rfl
    have G2 : (asG f N he (t :: r)).2 = asE N he t ++ (asG f (asN f N he t) (he + (asE N he t).length) r).2 := rfl
    have q1 := asG_le (f := f) r (asN f N he t) (he + (asE N he t).length)
    have q2 := asN_le (f := f) (N := N) (h := he) (t := t)
    have q3 := asE_le (N := N) (h := he) (t := t)
    rw [G1] at hb
    rw [G2, List.length_append] at hh
    obtain ⟨g2, nm2, pc2, d1, d2, d3⟩ := tk_ok (d := d) t1 b2 (by rw [ama_i (by decide) (by decide)]; unfold am_P; omega) N1 (by omega) (by omega) (by omega)
    have S2 : STK _ a l := STK_m (STK_m S (by show c0 ≤ c0 + 2; omega) b3) (by show c0 + 2 ≤ c0 + 2 + asC f t; omega) d3
    have sk2 := S2.1.1
    have L2 := str_len (d := d + 7) S2.1
    have le1 : (Int32.ofNat l.length ≤ Int32.ofNat pre.length) = False := (n_le (by omega) (by omega)).trans (eq_false (by omega))
    have k1 : Int32.ofNat (pre.length + t.length) + 1 = Int32.ofNat (pre.length + t.length + 1) := n_add (y := 1)
    have c19 : am_k (am_a c0 0 19) = 19 := ama_k (by decide)
    have F12 := FRM_t b3 (by show c0 ≤ c0 + 2; omega) d3
    have step : ∀ z0, am_G (d + 9) 201 2 [some (.ref 7264534539), some (.ref a), some (.int (Int32.ofNat pre.length)), z0] [] (HA g c0 s0 N.length he (if f = true then 1 else 0) kb nm pc) = am_G (d + 9) 201 2 [some (.ref 7264534539), some (.ref a), some (.int (Int32.ofNat (pre.length + t.length + 1))), some (.int (Int32.ofNat (pre.length + t.length)))] [] (HA g2 (c0 + 2 + asC f t) (s0 + 4 + t.length + asS f t) (asN f N he t).length (he + (asE N he t).length) (if f = true then 1 else 0) (lay kb he ((asE N he t).map sb)) nm2 pc2) := by
      intro z0
      rw [z201_2]
      simp (disch := (refine id ?_; first | with_reducible assumption | exact Nat.ne_of_beq_eq_false rfl | with_unfolding_all exact rfl | with_unfolding_all exact Nat.le_of_ble_eq_true rfl | (simp only [am_cat_nil, am_cat_int, am_cat_ref, am_cat_null, am_cat_long, Nat.reduceAdd, Nat.reduceLeDiff]; done) | omega | exact i_bnd2 (by simp only [am_n, Nat.reduceDiv, Nat.reduceMod, Nat.reduceMul, Nat.reduceAdd]; omega) | decide | fail)) only [z201_0, z201_1, z201_3, z201_3N, z201_4, z201_7, z201_10, z201_11, z201_36, z201_37, z201_37N, z201_38, z201_39, z201_40, z201_43, z201_46, z201_47, z201_48, z201_49, z201_50, z201_53, HA_r0, HA_r1, HA_r2, HA_r3, HA_r4, HA_r5, HA_a0, HA_a1, HA_a2, HA_w3, HA_w4, HA_w5, HA_b0, HA_b1, HA_b2, sk, L, le1, SC, b1, d1, k1, c19, ↓am_kc_f, am_kc_s, ↓reduceIte, i_10, i_00, i_eqll, i_lell, Nat.reduceEqDiff, Nat.reduceLeDiff, am_then_some, am_tl1, am_tl0, List.nil_append, Nat.reduceAdd, ad2]
    by_cases hr : r = []
    · subst hr
      have le2 : (Int32.ofNat l.length ≤ Int32.ofNat (pre.length + t.length + 1)) = True := (n_le (by omega) (by omega)).trans (eq_true (by have : (jn [t]).length = t.length := rfl; omega))
      have ec : c0 + asCs f [t] = c0 + 2 + asC f t := by show c0 + (2 + asC f t + 0) = _; omega
      have es : s0 + asSs f [t] = s0 + 4 + t.length + asS f t := by show s0 + (4 + t.length + asS f t + 0) = _; omega
      have e2 : (asG f N he [t]).2 = asE N he t := List.append_nil _
      have e1 : (asG f N he [t]).1 = asN f N he t := rfl
      rw [ec, es, e2, e1]
      refine ⟨g2, nm2, pc2, fun z0 => ⟨?_, d2, F12⟩⟩
      rw [step, z201_2]
      simp (disch := (refine id ?_; first | with_reducible assumption | exact Nat.ne_of_beq_eq_false rfl | with_unfolding_all exact rfl | with_unfolding_all exact Nat.le_of_ble_eq_true rfl | (simp only [am_cat_nil, am_cat_int, am_cat_ref, am_cat_null, am_cat_long, Nat.reduceAdd, Nat.reduceLeDiff]; done) | omega | exact i_bnd2 (by simp only [am_n, Nat.reduceDiv, Nat.reduceMod, Nat.reduceMul, Nat.reduceAdd]; omega) | decide | fail)) only [z201_0, z201_1, z201_3, z201_3N, z201_4, z201_7, z201_10, z201_11, z201_36, z201_37, z201_37N, z201_38, z201_39, z201_40, z201_43, z201_46, z201_47, z201_48, z201_49, z201_50, z201_53, HA_r0, HA_r1, HA_r2, HA_r3, HA_r4, HA_r5, HA_a0, HA_a1, HA_a2, HA_w3, HA_w4, HA_w5, HA_b0, HA_b1, HA_b2, sk2, L2, le2, ↓am_kc_f, am_kc_s, ↓reduceIte, i_10, i_00, i_eqll, i_lell, Nat.reduceEqDiff, Nat.reduceLeDiff, am_then_some, am_tl1, am_tl0, List.nil_append, Nat.reduceAdd, ad2]
    · have el2 : l = (pre ++ t ++ [32]) ++ jn r := by
        rw [el, jn_c hr]
        simp only [List.append_assoc, List.cons_append, List.nil_append]
      have pl : (pre ++ t ++ [32]).length = pre.length + t.length + 1 := by rw [List.length_append, List.length_append]; rfl
      obtain ⟨g3, nm3, pc3, I⟩ := ih (pre ++ t ++ [32]) g2 (c0 + 2 + asC f t) (s0 + 4 + t.length + asS f t) (he + (asE N he t).length) (lay kb he ((asE N he t).map sb)) nm2 pc2 (asN f N he t) el2 hr (fun z => by have := congrArg List.length z.1; rw [pl] at this; exact absurd this (by simp)) S2 (fun x hx_ => hT x (List.mem_cons_of_mem _ hx_)) d2 hb (by omega) (by omega)
      rw [pl] at I
      have ec : c0 + asCs f (t :: r) = c0 + 2 + asC f t + asCs f r := by show c0 + (2 + asC f t + asCs f r) = _; omega
      have es : s0 + asSs f (t :: r) = s0 + 4 + t.length + asS f t + asSs f r := by show s0 + (4 + t.length + asS f t + asSs f r) = _; omega
      have eh : he + (asE N he t ++ (asG f (asN f N he t) (he + (asE N he t).length) r).2).length = he + (asE N he t).length + (asG f (asN f N he t) (he + (asE N he t).length) r).2.length := by rw [List.length_append]; omega
      have ek : lay kb he ((asE N he t ++ (asG f (asN f N he t) (he + (asE N he t).length) r).2).map sb) = lay (lay kb he ((asE N he t).map sb)) (he + (asE N he t).length) ((asG f (asN f N he t) (he + (asE N he t).length) r).2.map sb) := by
        rw [List.map_append, ← lay_app, List.length_map]
      rw [ec, es, G1, G2, eh, ek]
      refine ⟨g3, nm3, pc3, fun z0 => ⟨?_, (I none).2.1, FRM_t F12 (by show c0 ≤ c0 + 2 + asC f t; omega) (I none).2.2⟩⟩
      rw [step]
      exact (I _).1
