/-! the run time system, text by text (printed by gen/kent.py) -/
set_option maxRecDepth 100000
set_option maxHeartbeats 1000000
theorem n25 : am_n 7281313388 = 25 := rfl
theorem sbf {x : Int32} : x.toInt8.toInt32 = sb x := rfl
theorem rd_M {g : Nat → Nat → Value} {c0 s0 he : Nat} {kb : Nat → Int32} {nm : Nat → Value} {pc : Nat → Int32} {N : List (List Nat × Nat)} {f : Bool} {a d : Nat} {ts : List (List Nat)} (S : STK (HA g c0 s0 (N).length he (if f = true then 1 else 0) kb nm pc) a (jn ts)) (hN : NAM (HA g c0 s0 (N).length he (if f = true then 1 else 0) kb nm pc) N nm pc) (h2 : 2 ≤ ts.length) (hT : ∀ t ∈ ts, tokOk t = true ∧ ∀ x ∈ t, x ≠ 32) (hb : (asG f N he ts).1.length < 95) (hh : he + (asG f N he ts).2.length + 2 < 2048) (hc : 440 ≤ c0) : ∃ g' nm' pc', am_M (d + 10) 201 [.ref 7264534539, .ref a] (HA g c0 s0 (N).length he (if f = true then 1 else 0) kb nm pc) = some (none, (HA g' (c0 + asCs f ts) (s0 + asSs f ts) ((asG f N he ts).1).length (he + (asG f N he ts).2.length) (if f = true then 1 else 0) (lay kb he ((asG f N he ts).2.map sb)) nm' pc')) ∧ NAM (HA g' (c0 + asCs f ts) (s0 + asSs f ts) ((asG f N he ts).1).length (he + (asG f N he ts).2.length) (if f = true then 1 else 0) (lay kb he ((asG f N he ts).2.map sb)) nm' pc') ((asG f N he ts).1) nm' pc' ∧ FRM (HA g c0 s0 (N).length he (if f = true then 1 else 0) kb nm pc) (HA g' (c0 + asCs f ts) (s0 + asSs f ts) ((asG f N he ts).1).length (he + (asG f N he ts).2.length) (if f = true then 1 else 0) (lay kb he ((asG f N he ts).2.map sb)) nm' pc') := by
  obtain ⟨g', nm', pc', I⟩ := rd_loop (d := d) (l := jn ts) ts [] g c0 s0 he kb nm pc N rfl (by intro e; rw [e] at h2; exact absurd h2 (by decide)) (fun z => by have := z.2; omega) S hT hN hb hh hc
  refine ⟨g', nm', pc', ?_, (I none).2⟩
  rw [e201 rfl, z201_0, z201_1]
  exact (I none).1
theorem k_ent {g : Nat → Nat → Value} {c0 s0 he : Nat} {kb : Nat → Int32} {nm : Nat → Value} {pc : Nat → Int32} {N : List (List Nat × Nat)} {f : Bool} {a d : Nat} {ts : List (List Nat)} {k : Nat} (hk : k < 64) (S : STK (HA g c0 s0 (N).length he (if f = true then 1 else 0) kb nm pc) a (jn ts)) (hN : NAM (HA g c0 s0 (N).length he (if f = true then 1 else 0) kb nm pc) N nm pc) (h2 : 2 ≤ ts.length) (hT : ∀ t ∈ ts, tokOk t = true ∧ ∀ x ∈ t, x ≠ 32) (hb : (asG f N he ts).1.length < 95) (hh : he + (asG f N he ts).2.length + 2 < 2048) (hc : 440 ≤ c0) : ∃ g' nm' pc', am_M (d + 11) 200 [.ref 7264534539, .int (Int32.ofNat k), .ref a] (HA g c0 s0 (N).length he (if f = true then 1 else 0) kb nm pc) = some (none, (HA g' (c0 + asCs f ts) (s0 + asSs f ts) ((asG f N he ts).1).length (he + (asG f N he ts).2.length) (if f = true then 1 else 0) (lay (up (up (up kb (64 + 3 * k) (sb (-61))) (64 + 3 * k + 1) (sb (Int32.ofNat he))) (64 + 3 * k + 2) (sb (Int32.ofNat he >>> 8))) he ((asG f N he ts).2.map sb)) nm' pc')) ∧ NAM (HA g' (c0 + asCs f ts) (s0 + asSs f ts) ((asG f N he ts).1).length (he + (asG f N he ts).2.length) (if f = true then 1 else 0) (lay (up (up (up kb (64 + 3 * k) (sb (-61))) (64 + 3 * k + 1) (sb (Int32.ofNat he))) (64 + 3 * k + 2) (sb (Int32.ofNat he >>> 8))) he ((asG f N he ts).2.map sb)) nm' pc') ((asG f N he ts).1) nm' pc' ∧ FRM (HA g c0 s0 (N).length he (if f = true then 1 else 0) kb nm pc) (HA g' (c0 + asCs f ts) (s0 + asSs f ts) ((asG f N he ts).1).length (he + (asG f N he ts).2.length) (if f = true then 1 else 0) (lay (up (up (up kb (64 + 3 * k) (sb (-61))) (64 + 3 * k + 1) (sb (Int32.ofNat he))) (64 + 3 * k + 2) (sb (Int32.ofNat he >>> 8))) he ((asG f N he ts).2.map sb)) nm' pc') := by
  have F0 : FRM (HA g c0 s0 (N).length he (if f = true then 1 else 0) kb nm pc) (HA g c0 s0 (N).length he (if f = true then 1 else 0) (up (up (up kb (64 + 3 * k) (sb (-61))) (64 + 3 * k + 1) (sb (Int32.ofNat he))) (64 + 3 * k + 2) (sb (Int32.ofNat he >>> 8))) nm pc) := HA_frm
  obtain ⟨g', nm', pc', R, R2, R3⟩ := rd_M (d := d) (kb := (up (up (up kb (64 + 3 * k) (sb (-61))) (64 + 3 * k + 1) (sb (Int32.ofNat he))) (64 + 3 * k + 2) (sb (Int32.ofNat he >>> 8)))) (STK_m (h' := (HA g c0 s0 (N).length he (if f = true then 1 else 0) (up (up (up kb (64 + 3 * k) (sb (-61))) (64 + 3 * k + 1) (sb (Int32.ofNat he))) (64 + 3 * k + 2) (sb (Int32.ofNat he >>> 8))) nm pc)) S (Nat.le_refl _) F0) (NAM_m (h' := (HA g c0 s0 (N).length he (if f = true then 1 else 0) (up (up (up kb (64 + 3 * k) (sb (-61))) (64 + 3 * k + 1) (sb (Int32.ofNat he))) (64 + 3 * k + 2) (sb (Int32.ofNat he >>> 8))) nm pc)) hN (Nat.le_refl _) F0) h2 hT hb hh hc
  refine ⟨g', nm', pc', ?_, R2, FRM_t F0 (Nat.le_refl _) R3⟩
  have m1 : (3 : Int32) * Int32.ofNat k = Int32.ofNat (3 * k) := n_mul (a := 3)
  have m2 : (64 : Int32) + Int32.ofNat (3 * k) = Int32.ofNat (64 + 3 * k) := n_add (x := 64)
  have m3 : Int32.ofNat (64 + 3 * k) + 1 = Int32.ofNat (64 + 3 * k + 1) := n_add (y := 1)
  have m4 : Int32.ofNat (64 + 3 * k) + 2 = Int32.ofNat (64 + 3 * k + 2) := n_add (y := 2)
  have t1 : (Int32.ofNat (64 + 3 * k)).toNatClampNeg = 64 + 3 * k := tn_of (by omega)
  have t2 : (Int32.ofNat (64 + 3 * k + 1)).toNatClampNeg = 64 + 3 * k + 1 := tn_of (by omega)
  have t3 : (Int32.ofNat (64 + 3 * k + 2)).toNatClampNeg = 64 + 3 * k + 2 := tn_of (by omega)
  have b1 : ¬ (Int32.ofNat (64 + 3 * k) < 0 ∨ am_n 7331774505 ≤ (Int32.ofNat (64 + 3 * k)).toNatClampNeg) := i_bnd2 (by simp only [am_n, Nat.reduceDiv, Nat.reduceMod]; omega)
  have b2 : ¬ (Int32.ofNat (64 + 3 * k + 1) < 0 ∨ am_n 7331774505 ≤ (Int32.ofNat (64 + 3 * k + 1)).toNatClampNeg) := i_bnd2 (by simp only [am_n, Nat.reduceDiv, Nat.reduceMod]; omega)
  have b3 : ¬ (Int32.ofNat (64 + 3 * k + 2) < 0 ∨ am_n 7331774505 ≤ (Int32.ofNat (64 + 3 * k + 2)).toNatClampNeg) := i_bnd2 (by simp only [am_n, Nat.reduceDiv, Nat.reduceMod]; omega)
  rw [e200 rfl]
  simp (disch := (refine id ?_; first | with_reducible assumption | exact Nat.ne_of_beq_eq_false rfl | with_unfolding_all exact rfl | with_unfolding_all exact Nat.le_of_ble_eq_true rfl | (simp only [am_cat_nil, am_cat_int, am_cat_ref, am_cat_null, am_cat_long, Nat.reduceAdd, Nat.reduceLeDiff]; done) | omega | exact i_bnd2 (by simp only [am_n, Nat.reduceDiv, Nat.reduceMod, Nat.reduceMul, Nat.reduceAdd]; omega) | decide | fail)) only [z200_0, z200_2, z200_3, z200_4, z200_5, z200_6, z200_7, z200_8, z200_11, z200_12, z200_14, z200_15, z200_16, z200_19, z200_20, z200_21, z200_22, z200_23, z200_26, z200_27, z200_28, z200_29, z200_32, z200_33, z200_34, z200_35, z200_36, z200_39, z200_41, z200_42, z200_43, z200_44, z200_45, z200_45N, z200_46, z200_49, HA_r0, HA_r1, HA_r2, HA_r3, HA_r4, HA_r5, HA_a0, HA_a1, HA_a2, HA_w3, HA_w4, HA_w5, HA_b0, HA_b1, HA_b2, m1, m2, m3, m4, t1, t2, t3, b1, b2, b3, R, i8_8, i_m8, sbf, ↓am_kc_f, am_kc_s, ↓reduceIte, i_10, i_00, i_eqll, i_lell, Nat.reduceEqDiff, Nat.reduceLeDiff, am_then_some, am_tl1, am_tl0, List.nil_append, Nat.reduceAdd, ad2]
def txG (f : Bool) : List (List Nat × Nat) → Nat → List (List (List Nat)) → List (List Nat × Nat) × List Int32
  | N, _, [] => (N, [])
  | N, h, ts :: r => ((txG f (asG f N h ts).1 (h + (asG f N h ts).2.length) r).1, (asG f N h ts).2 ++ (txG f (asG f N h ts).1 (h + (asG f N h ts).2.length) r).2)
def txC (f : Bool) : List (List (List Nat)) → Nat
  | [] => 0
  | ts :: r => asCs f ts + txC f r
def txS (f : Bool) : List (List (List Nat)) → Nat
  | [] => 0
  | ts :: r => asSs f ts + txS f r
def tbl (f : Bool) : List (List Nat × Nat) → Nat → List (List (List Nat)) → List Int32
  | _, _, [] => []
  | N, h, ts :: r => sb (-61) :: sb (Int32.ofNat h) :: sb (Int32.ofNat h >>> 8) :: tbl f (asG f N h ts).1 (h + (asG f N h ts).2.length) r
theorem txG_le {f : Bool} : ∀ (R : List (List (List Nat))) (N : List (List Nat × Nat)) (h : Nat), N.length ≤ (txG f N h R).1.length := by
  intro R
  induction R with
  | nil => intro N h; exact Nat.le_refl _
  | cons t r ih => intro N h; exact Nat.le_trans (asG_le t N h) (ih _ _)
theorem tbl_len {f : Bool} : ∀ (R : List (List (List Nat))) (N : List (List Nat × Nat)) (h : Nat), (tbl f N h R).length = 3 * R.length := by
  intro R
  induction R with
  | nil => intro N h; rfl
  | cons t r ih =>
    intro N h
    show (tbl f (asG f N h t).1 (h + (asG f N h t).2.length) r).length + 1 + 1 + 1 = 3 * (r.length + 1)
    rw [ih]
    omega
/-- the texts of a row from its place j on -/
def TXA (h : am_H) (arr : Nat) : Nat → List (List (List Nat)) → Prop
  | _, [] => True
  | j, ts :: r => (∃ a, am_g h arr j = .ref a ∧ STK h a (jn ts)) ∧ TXA h arr (j + 1) r
theorem TXA_m {h h' : am_H} {arr : Nat} (h1 : h.1 ≤ h'.1) (f : FRM h h') (ha : am_i arr < h.1) (n1 : arr ≠ 7264534539) (n2 : arr ≠ 7331774505) (n3 : arr ≠ 7348426796) (n4 : arr ≠ 7365204008) : ∀ (R : List (List (List Nat))) (j : Nat), TXA h arr j R → TXA h' arr j R := by
  intro R
  induction R with
  | nil => intro j _; trivial
  | cons t r ih =>
    intro j t
    obtain ⟨⟨a, a1, a2⟩, t2⟩ := t
    exact ⟨⟨a, (f arr j ha (fun e => absurd e n1) n2 n3 n4).trans a1, STK_m a2 h1 f⟩, ih _ t2⟩
def TOK (R : List (List (List Nat))) : Prop := ∀ ts ∈ R, 2 ≤ ts.length ∧ ∀ t ∈ ts, tokOk t = true ∧ ∀ x ∈ t, x ≠ 32
theorem k_lp0 {f : Bool} {d : Nat} {t : Int32} {kb : Nat → Int32} : ∀ (R : List (List (List Nat))) (j : Nat) (tb E : List Int32) (g : Nat → Nat → Value) (c0 s0 : Nat) (nm : Nat → Value) (pc : Nat → Int32) (N : List (List Nat × Nat)), j + R.length = 25 → tb.length = 3 * (0 + j) → TXA (HA g c0 s0 (N).length (256 + E.length) (if f = true then 1 else 0) (lay (lay kb 64 tb) 256 (E.map sb)) nm pc) 7281313388 j R → TOK R → NAM (HA g c0 s0 (N).length (256 + E.length) (if f = true then 1 else 0) (lay (lay kb 64 tb) 256 (E.map sb)) nm pc) N nm pc → am_g (HA g c0 s0 (N).length (256 + E.length) (if f = true then 1 else 0) (lay (lay kb 64 tb) 256 (E.map sb)) nm pc) 7264534539 0 = .ref 7281313388 → am_g (HA g c0 s0 (N).length (256 + E.length) (if f = true then 1 else 0) (lay (lay kb 64 tb) 256 (E.map sb)) nm pc) 7264534539 0 = .ref 7281313388 → (txG f N (256 + E.length) R).1.length < 95 → 256 + (E ++ (txG f N (256 + E.length) R).2).length + 2 < 2048 → 440 ≤ c0 →
    ∃ g' nm' pc', am_G (d + 11) 199 460 [some (.ref 7264534539), some (.int t), some (.int (Int32.ofNat j))] [] (HA g c0 s0 (N).length (256 + E.length) (if f = true then 1 else 0) (lay (lay kb 64 tb) 256 (E.map sb)) nm pc) = am_G (d + 11) 199 486 [some (.ref 7264534539), some (.int t), some (.int (Int32.ofNat 25))] [] (HA g' (c0 + txC f R) (s0 + txS f R) ((txG f N (256 + E.length) R).1).length (256 + (E ++ (txG f N (256 + E.length) R).2).length) (if f = true then 1 else 0) (lay (lay kb 64 (tb ++ tbl f N (256 + E.length) R)) 256 ((E ++ (txG f N (256 + E.length) R).2).map sb)) nm' pc') ∧ NAM (HA g' (c0 + txC f R) (s0 + txS f R) ((txG f N (256 + E.length) R).1).length (256 + (E ++ (txG f N (256 + E.length) R).2).length) (if f = true then 1 else 0) (lay (lay kb 64 (tb ++ tbl f N (256 + E.length) R)) 256 ((E ++ (txG f N (256 + E.length) R).2).map sb)) nm' pc') ((txG f N (256 + E.length) R).1) nm' pc' ∧ FRM (HA g c0 s0 (N).length (256 + E.length) (if f = true then 1 else 0) (lay (lay kb 64 tb) 256 (E.map sb)) nm pc) (HA g' (c0 + txC f R) (s0 + txS f R) ((txG f N (256 + E.length) R).1).length (256 + (E ++ (txG f N (256 + E.length) R).2).length) (if f = true then 1 else 0) (lay (lay kb 64 (tb ++ tbl f N (256 + E.length) R)) 256 ((E ++ (txG f N (256 + E.length) R).2).map sb)) nm' pc') := by
  intro R
  induction R with
  | nil =>
    intro j tb E g c0 s0 nm pc N hj lt_ hA hT hN ra0 ra0' hb hh hc
    have ej : j = 25 := by simpa using hj
    have c1 : (Int32.ofNat 25 ≤ Int32.ofNat j) = True := (n_le (by omega) (by omega)).trans (eq_true (by omega))
    have an : am_n 7281313388 = 25 := rfl
    have e1 : (E ++ (txG f N (256 + E.length) []).2) = E := List.append_nil E
    have e2 : (txG f N (256 + E.length) []).1 = N := rfl
    have e3 : tb ++ tbl f N (256 + E.length) [] = tb := List.append_nil tb
    rw [e1, e2, e3]
    refine ⟨g, nm, pc, ?_, hN, FRM_r⟩
    rw [z199_460]
    simp (disch := (refine id ?_; first | with_reducible assumption | exact Nat.ne_of_beq_eq_false rfl | with_unfolding_all exact rfl | with_unfolding_all exact Nat.le_of_ble_eq_true rfl | (simp only [am_cat_nil, am_cat_int, am_cat_ref, am_cat_null, am_cat_long, Nat.reduceAdd, Nat.reduceLeDiff]; done) | omega | exact i_bnd2 (by simp only [am_n, Nat.reduceDiv, Nat.reduceMod, Nat.reduceMul, Nat.reduceAdd]; omega) | decide | fail)) only [z199_458, z199_459, z199_461, z199_462, z199_465, z199_466, z199_469, z199_470, z199_471, z199_472, z199_475, z199_476, z199_477, z199_480, z199_483, z199_487, z199_489, z199_490, z199_493, z199_494, z199_497, z199_498, z199_499, z199_502, z199_503, z199_504, z199_505, z199_506, z199_509, z199_510, z199_511, z199_514, z199_517, z199_521, z199_523, z199_524, z199_527, z199_528, z199_531, z199_532, z199_533, z199_536, z199_537, z199_538, z199_541, z199_544, z199_550, z199_553, HA_r0, HA_r1, HA_r2, HA_r3, HA_r4, HA_r5, HA_a0, HA_a1, HA_a2, HA_w3, HA_w4, HA_w5, HA_b0, HA_b1, HA_b2, ra0, c1, an, ej, ↓am_kc_f, am_kc_s, ↓reduceIte, i_10, i_00, i_eqll, i_lell, Nat.reduceEqDiff, Nat.reduceLeDiff, am_then_some, am_tl1, am_tl0, List.nil_append, Nat.reduceAdd, ad2]
    rfl
  | cons ts r ih =>
    intro j tb E g c0 s0 nm pc N hj lt_ hA hT hN ra0 ra0' hb hh hc
    have hj' : j + r.length + 1 = 25 := hj
    have c1 : (Int32.ofNat 25 ≤ Int32.ofNat j) = False := (n_le (by omega) (by omega)).trans (eq_false (by omega))
    have an : am_n 7281313388 = 25 := rfl
    have t1 : (Int32.ofNat j).toNatClampNeg = j := tn_of (by omega)
    have b1 : ¬ (Int32.ofNat j < 0 ∨ am_n 7281313388 ≤ (Int32.ofNat j).toNatClampNeg) := i_bnd2 (by simp only [am_n, Nat.reduceDiv, Nat.reduceMod]; omega)
    have k1 : Int32.ofNat j + 1 = Int32.ofNat (j + 1) := n_add (y := 1)
    obtain ⟨⟨a, a1, a2⟩, a3⟩ := hA
    obtain ⟨u1, u2⟩ := hT ts (List.mem_cons_self)
    have G1 : (txG f N (256 + E.length) (ts :: r)).1 = (txG f (asG f N (256 + E.length) ts).1 (256 + E.length + (asG f N (256 + E.length) ts).2.length) r).1 := rfl
    have G2 : (txG f N (256 + E.length) (ts :: r)).2 = (asG f N (256 + E.length) ts).2 ++ (txG f (asG f N (256 + E.length) ts).1 (256 + E.length + (asG f N (256 + E.length) ts).2.length) r).2 := rfl
    have q1 := txG_le (f := f) r (asG f N (256 + E.length) ts).1 (256 + E.length + (asG f N (256 + E.length) ts).2.length)
    rw [G1] at hb
    rw [G2, List.length_append, List.length_append] at hh
    obtain ⟨g1, nm1, pc1, B, B2, B3⟩ := k_ent (d := d) (k := 0 + j) (by omega) a2 hN u1 u2 (by omega) (by omega) hc
    have ek : lay (up (up (up (lay (lay kb 64 tb) 256 (E.map sb)) (64 + 3 * (0 + j)) (sb (-61))) (64 + 3 * (0 + j) + 1) (sb (Int32.ofNat (256 + E.length)))) (64 + 3 * (0 + j) + 2) (sb (Int32.ofNat (256 + E.length) >>> 8))) (256 + E.length) ((asG f N (256 + E.length) ts).2.map sb) = lay (lay kb 64 (tb ++ [sb (-61), sb (Int32.ofNat (256 + E.length)), sb (Int32.ofNat (256 + E.length) >>> 8)])) 256 ((E ++ (asG f N (256 + E.length) ts).2).map sb) := by
      have e0 : 64 + 3 * (0 + j) = 64 + tb.length := by rw [lt_]
      rw [e0, lay_up (by omega), lay_up (by omega), lay_up (by omega), ← lay_app]
      rw [show ∀ (x y z : Int32) (q : Nat → Int32), up (up (up q (64 + tb.length) x) (64 + tb.length + 1) y) (64 + tb.length + 2) z = lay q (64 + tb.length) [x, y, z] from fun x y z q => rfl]
      rw [List.map_append, ← lay_app, List.length_map]
    rw [ek] at B B2 B3
    have z0 : 0 + j = j := Nat.zero_add j
    rw [z0] at B
    have el : 256 + E.length + (asG f N (256 + E.length) ts).2.length = 256 + (E ++ (asG f N (256 + E.length) ts).2).length := by rw [List.length_append]; omega
    rw [el] at B B2 B3 G1 G2 hb hh
    have li : am_i 7281313388 < c0 := Nat.lt_of_lt_of_le (by decide) hc
    have lk : am_i 7264534539 < c0 := Nat.lt_of_lt_of_le (by decide) hc
    obtain ⟨g2, nm2, pc2, I, I2, I3⟩ := ih (j + 1) (tb ++ [sb (-61), sb (Int32.ofNat (256 + E.length)), sb (Int32.ofNat (256 + E.length) >>> 8)]) (E ++ (asG f N (256 + E.length) ts).2) g1 (c0 + asCs f ts) (s0 + asSs f ts) nm1 pc1 (asG f N (256 + E.length) ts).1 (by omega) (by rw [List.length_append, lt_]; show 3 * (0 + j) + 3 = _; omega) (TXA_m (by show c0 ≤ c0 + asCs f ts; omega) B3 li (by decide) (by decide) (by decide) (by decide) _ _ a3) (fun x hx_ => hT x (List.mem_cons_of_mem _ hx_)) B2
      ((B3 7264534539 0 lk (fun _ => by decide) (by decide) (by decide) (by decide)).trans ra0) ((B3 7264534539 0 lk (fun _ => by decide) (by decide) (by decide) (by decide)).trans ra0') hb (by rw [List.length_append]; omega) (by omega)
    have ec : c0 + txC f (ts :: r) = c0 + asCs f ts + txC f r := by show c0 + (asCs f ts + txC f r) = _; omega
    have es : s0 + txS f (ts :: r) = s0 + asSs f ts + txS f r := by show s0 + (asSs f ts + txS f r) = _; omega
    have e5 : tb ++ tbl f N (256 + E.length) (ts :: r) = (tb ++ [sb (-61), sb (Int32.ofNat (256 + E.length)), sb (Int32.ofNat (256 + E.length) >>> 8)]) ++ tbl f (asG f N (256 + E.length) ts).1 (256 + (E ++ (asG f N (256 + E.length) ts).2).length) r := by
      rw [← el, List.append_assoc]
      rfl
    rw [ec, es, G1, G2, e5, ← List.append_assoc]
    refine ⟨g2, nm2, pc2, ?_, I2, FRM_t B3 (by show c0 ≤ c0 + asCs f ts; omega) I3⟩
    rw [z199_460]
    simp (disch := (refine id ?_; first | with_reducible assumption | exact Nat.ne_of_beq_eq_false rfl | with_unfolding_all exact rfl | with_unfolding_all exact Nat.le_of_ble_eq_true rfl | (simp only [am_cat_nil, am_cat_int, am_cat_ref, am_cat_null, am_cat_long, Nat.reduceAdd, Nat.reduceLeDiff]; done) | omega | exact i_bnd2 (by simp only [am_n, Nat.reduceDiv, Nat.reduceMod, Nat.reduceMul, Nat.reduceAdd]; omega) | decide | fail)) only [z199_458, z199_459, z199_461, z199_462, z199_465, z199_466, z199_469, z199_470, z199_471, z199_472, z199_475, z199_476, z199_477, z199_480, z199_483, z199_487, z199_489, z199_490, z199_493, z199_494, z199_497, z199_498, z199_499, z199_502, z199_503, z199_504, z199_505, z199_506, z199_509, z199_510, z199_511, z199_514, z199_517, z199_521, z199_523, z199_524, z199_527, z199_528, z199_531, z199_532, z199_533, z199_536, z199_537, z199_538, z199_541, z199_544, z199_550, z199_553, HA_r0, HA_r1, HA_r2, HA_r3, HA_r4, HA_r5, HA_a0, HA_a1, HA_a2, HA_w3, HA_w4, HA_w5, HA_b0, HA_b1, HA_b2, ra0, c1, t1, b1, k1, a1, B, I, an, ↓am_kc_f, am_kc_s, ↓reduceIte, i_10, i_00, i_eqll, i_lell, Nat.reduceEqDiff, Nat.reduceLeDiff, am_then_some, am_tl1, am_tl0, List.nil_append, Nat.reduceAdd, ad2]
theorem k_lp1 {f : Bool} {d : Nat} {t : Int32} {kb : Nat → Int32} : ∀ (R : List (List (List Nat))) (j : Nat) (tb E : List Int32) (g : Nat → Nat → Value) (c0 s0 : Nat) (nm : Nat → Value) (pc : Nat → Int32) (N : List (List Nat × Nat)), j + R.length = 26 → tb.length = 3 * (25 + j) → TXA (HA g c0 s0 (N).length (256 + E.length) (if f = true then 1 else 0) (lay (lay kb 64 tb) 256 (E.map sb)) nm pc) 7298090668 j R → TOK R → NAM (HA g c0 s0 (N).length (256 + E.length) (if f = true then 1 else 0) (lay (lay kb 64 tb) 256 (E.map sb)) nm pc) N nm pc → am_g (HA g c0 s0 (N).length (256 + E.length) (if f = true then 1 else 0) (lay (lay kb 64 tb) 256 (E.map sb)) nm pc) 7264534539 0 = .ref 7281313388 → am_g (HA g c0 s0 (N).length (256 + E.length) (if f = true then 1 else 0) (lay (lay kb 64 tb) 256 (E.map sb)) nm pc) 7264534539 1 = .ref 7298090668 → (txG f N (256 + E.length) R).1.length < 95 → 256 + (E ++ (txG f N (256 + E.length) R).2).length + 2 < 2048 → 440 ≤ c0 →
    ∃ g' nm' pc', am_G (d + 11) 199 488 [some (.ref 7264534539), some (.int t), some (.int (Int32.ofNat j))] [] (HA g c0 s0 (N).length (256 + E.length) (if f = true then 1 else 0) (lay (lay kb 64 tb) 256 (E.map sb)) nm pc) = am_G (d + 11) 199 520 [some (.ref 7264534539), some (.int t), some (.int (Int32.ofNat 26))] [] (HA g' (c0 + txC f R) (s0 + txS f R) ((txG f N (256 + E.length) R).1).length (256 + (E ++ (txG f N (256 + E.length) R).2).length) (if f = true then 1 else 0) (lay (lay kb 64 (tb ++ tbl f N (256 + E.length) R)) 256 ((E ++ (txG f N (256 + E.length) R).2).map sb)) nm' pc') ∧ NAM (HA g' (c0 + txC f R) (s0 + txS f R) ((txG f N (256 + E.length) R).1).length (256 + (E ++ (txG f N (256 + E.length) R).2).length) (if f = true then 1 else 0) (lay (lay kb 64 (tb ++ tbl f N (256 + E.length) R)) 256 ((E ++ (txG f N (256 + E.length) R).2).map sb)) nm' pc') ((txG f N (256 + E.length) R).1) nm' pc' ∧ FRM (HA g c0 s0 (N).length (256 + E.length) (if f = true then 1 else 0) (lay (lay kb 64 tb) 256 (E.map sb)) nm pc) (HA g' (c0 + txC f R) (s0 + txS f R) ((txG f N (256 + E.length) R).1).length (256 + (E ++ (txG f N (256 + E.length) R).2).length) (if f = true then 1 else 0) (lay (lay kb 64 (tb ++ tbl f N (256 + E.length) R)) 256 ((E ++ (txG f N (256 + E.length) R).2).map sb)) nm' pc') := by
  intro R
  induction R with
  | nil =>
    intro j tb E g c0 s0 nm pc N hj lt_ hA hT hN ra0 ra1 hb hh hc
    have ej : j = 26 := by simpa using hj
    have c1 : (Int32.ofNat 26 ≤ Int32.ofNat j) = True := (n_le (by omega) (by omega)).trans (eq_true (by omega))
    have an : am_n 7298090668 = 26 := rfl
    have e1 : (E ++ (txG f N (256 + E.length) []).2) = E := List.append_nil E
    have e2 : (txG f N (256 + E.length) []).1 = N := rfl
    have e3 : tb ++ tbl f N (256 + E.length) [] = tb := List.append_nil tb
    rw [e1, e2, e3]
    refine ⟨g, nm, pc, ?_, hN, FRM_r⟩
    rw [z199_488]
    simp (disch := (refine id ?_; first | with_reducible assumption | exact Nat.ne_of_beq_eq_false rfl | with_unfolding_all exact rfl | with_unfolding_all exact Nat.le_of_ble_eq_true rfl | (simp only [am_cat_nil, am_cat_int, am_cat_ref, am_cat_null, am_cat_long, Nat.reduceAdd, Nat.reduceLeDiff]; done) | omega | exact i_bnd2 (by simp only [am_n, Nat.reduceDiv, Nat.reduceMod, Nat.reduceMul, Nat.reduceAdd]; omega) | decide | fail)) only [z199_458, z199_459, z199_461, z199_462, z199_465, z199_466, z199_469, z199_470, z199_471, z199_472, z199_475, z199_476, z199_477, z199_480, z199_483, z199_487, z199_489, z199_490, z199_493, z199_494, z199_497, z199_498, z199_499, z199_502, z199_503, z199_504, z199_505, z199_506, z199_509, z199_510, z199_511, z199_514, z199_517, z199_521, z199_523, z199_524, z199_527, z199_528, z199_531, z199_532, z199_533, z199_536, z199_537, z199_538, z199_541, z199_544, z199_550, z199_553, HA_r0, HA_r1, HA_r2, HA_r3, HA_r4, HA_r5, HA_a0, HA_a1, HA_a2, HA_w3, HA_w4, HA_w5, HA_b0, HA_b1, HA_b2, ra0, ra1, c1, an, ej, ↓am_kc_f, am_kc_s, ↓reduceIte, i_10, i_00, i_eqll, i_lell, Nat.reduceEqDiff, Nat.reduceLeDiff, am_then_some, am_tl1, am_tl0, List.nil_append, Nat.reduceAdd, ad2]
    rfl
  | cons ts r ih =>
    intro j tb E g c0 s0 nm pc N hj lt_ hA hT hN ra0 ra1 hb hh hc
    have hj' : j + r.length + 1 = 26 := hj
    have c1 : (Int32.ofNat 26 ≤ Int32.ofNat j) = False := (n_le (by omega) (by omega)).trans (eq_false (by omega))
    have an : am_n 7298090668 = 26 := rfl
    have t1 : (Int32.ofNat j).toNatClampNeg = j := tn_of (by omega)
    have b1 : ¬ (Int32.ofNat j < 0 ∨ am_n 7298090668 ≤ (Int32.ofNat j).toNatClampNeg) := i_bnd2 (by simp only [am_n, Nat.reduceDiv, Nat.reduceMod]; omega)
    have k1 : Int32.ofNat j + 1 = Int32.ofNat (j + 1) := n_add (y := 1)
    obtain ⟨⟨a, a1, a2⟩, a3⟩ := hA
    obtain ⟨u1, u2⟩ := hT ts (List.mem_cons_self)
    have G1 : (txG f N (256 + E.length) (ts :: r)).1 = (txG f (asG f N (256 + E.length) ts).1 (256 + E.length + (asG f N (256 + E.length) ts).2.length) r).1 := rfl
    have G2 : (txG f N (256 + E.length) (ts :: r)).2 = (asG f N (256 + E.length) ts).2 ++ (txG f (asG f N (256 + E.length) ts).1 (256 + E.length + (asG f N (256 + E.length) ts).2.length) r).2 := rfl
    have q1 := txG_le (f := f) r (asG f N (256 + E.length) ts).1 (256 + E.length + (asG f N (256 + E.length) ts).2.length)
    rw [G1] at hb
    rw [G2, List.length_append, List.length_append] at hh
    obtain ⟨g1, nm1, pc1, B, B2, B3⟩ := k_ent (d := d) (k := 25 + j) (by omega) a2 hN u1 u2 (by omega) (by omega) hc
    have ek : lay (up (up (up (lay (lay kb 64 tb) 256 (E.map sb)) (64 + 3 * (25 + j)) (sb (-61))) (64 + 3 * (25 + j) + 1) (sb (Int32.ofNat (256 + E.length)))) (64 + 3 * (25 + j) + 2) (sb (Int32.ofNat (256 + E.length) >>> 8))) (256 + E.length) ((asG f N (256 + E.length) ts).2.map sb) = lay (lay kb 64 (tb ++ [sb (-61), sb (Int32.ofNat (256 + E.length)), sb (Int32.ofNat (256 + E.length) >>> 8)])) 256 ((E ++ (asG f N (256 + E.length) ts).2).map sb) := by
      have e0 : 64 + 3 * (25 + j) = 64 + tb.length := by rw [lt_]
      rw [e0, lay_up (by omega), lay_up (by omega), lay_up (by omega), ← lay_app]
      rw [show ∀ (x y z : Int32) (q : Nat → Int32), up (up (up q (64 + tb.length) x) (64 + tb.length + 1) y) (64 + tb.length + 2) z = lay q (64 + tb.length) [x, y, z] from fun x y z q => rfl]
      rw [List.map_append, ← lay_app, List.length_map]
    rw [ek] at B B2 B3
    have ka : Int32.ofNat 25 + Int32.ofNat j = Int32.ofNat (25 + j) := n_add
    have el : 256 + E.length + (asG f N (256 + E.length) ts).2.length = 256 + (E ++ (asG f N (256 + E.length) ts).2).length := by rw [List.length_append]; omega
    rw [el] at B B2 B3 G1 G2 hb hh
    have li : am_i 7298090668 < c0 := Nat.lt_of_lt_of_le (by decide) hc
    have lk : am_i 7264534539 < c0 := Nat.lt_of_lt_of_le (by decide) hc
    obtain ⟨g2, nm2, pc2, I, I2, I3⟩ := ih (j + 1) (tb ++ [sb (-61), sb (Int32.ofNat (256 + E.length)), sb (Int32.ofNat (256 + E.length) >>> 8)]) (E ++ (asG f N (256 + E.length) ts).2) g1 (c0 + asCs f ts) (s0 + asSs f ts) nm1 pc1 (asG f N (256 + E.length) ts).1 (by omega) (by rw [List.length_append, lt_]; show 3 * (25 + j) + 3 = _; omega) (TXA_m (by show c0 ≤ c0 + asCs f ts; omega) B3 li (by decide) (by decide) (by decide) (by decide) _ _ a3) (fun x hx_ => hT x (List.mem_cons_of_mem _ hx_)) B2
      ((B3 7264534539 0 lk (fun _ => by decide) (by decide) (by decide) (by decide)).trans ra0) ((B3 7264534539 1 lk (fun _ => by decide) (by decide) (by decide) (by decide)).trans ra1) hb (by rw [List.length_append]; omega) (by omega)
    have ec : c0 + txC f (ts :: r) = c0 + asCs f ts + txC f r := by show c0 + (asCs f ts + txC f r) = _; omega
    have es : s0 + txS f (ts :: r) = s0 + asSs f ts + txS f r := by show s0 + (asSs f ts + txS f r) = _; omega
    have e5 : tb ++ tbl f N (256 + E.length) (ts :: r) = (tb ++ [sb (-61), sb (Int32.ofNat (256 + E.length)), sb (Int32.ofNat (256 + E.length) >>> 8)]) ++ tbl f (asG f N (256 + E.length) ts).1 (256 + (E ++ (asG f N (256 + E.length) ts).2).length) r := by
      rw [← el, List.append_assoc]
      rfl
    rw [ec, es, G1, G2, e5, ← List.append_assoc]
    refine ⟨g2, nm2, pc2, ?_, I2, FRM_t B3 (by show c0 ≤ c0 + asCs f ts; omega) I3⟩
    rw [z199_488]
    simp (disch := (refine id ?_; first | with_reducible assumption | exact Nat.ne_of_beq_eq_false rfl | with_unfolding_all exact rfl | with_unfolding_all exact Nat.le_of_ble_eq_true rfl | (simp only [am_cat_nil, am_cat_int, am_cat_ref, am_cat_null, am_cat_long, Nat.reduceAdd, Nat.reduceLeDiff]; done) | omega | exact i_bnd2 (by simp only [am_n, Nat.reduceDiv, Nat.reduceMod, Nat.reduceMul, Nat.reduceAdd]; omega) | decide | fail)) only [z199_458, z199_459, z199_461, z199_462, z199_465, z199_466, z199_469, z199_470, z199_471, z199_472, z199_475, z199_476, z199_477, z199_480, z199_483, z199_487, z199_489, z199_490, z199_493, z199_494, z199_497, z199_498, z199_499, z199_502, z199_503, z199_504, z199_505, z199_506, z199_509, z199_510, z199_511, z199_514, z199_517, z199_521, z199_523, z199_524, z199_527, z199_528, z199_531, z199_532, z199_533, z199_536, z199_537, z199_538, z199_541, z199_544, z199_550, z199_553, HA_r0, HA_r1, HA_r2, HA_r3, HA_r4, HA_r5, HA_a0, HA_a1, HA_a2, HA_w3, HA_w4, HA_w5, HA_b0, HA_b1, HA_b2, ra0, ra1, c1, t1, b1, k1, a1, B, I, an, n25, ka, ↓am_kc_f, am_kc_s, ↓reduceIte, i_10, i_00, i_eqll, i_lell, Nat.reduceEqDiff, Nat.reduceLeDiff, am_then_some, am_tl1, am_tl0, List.nil_append, Nat.reduceAdd, ad2]
theorem k_lp2 {f : Bool} {d : Nat} {t : Int32} {kb : Nat → Int32} : ∀ (R : List (List (List Nat))) (j : Nat) (tb E : List Int32) (g : Nat → Nat → Value) (c0 s0 : Nat) (nm : Nat → Value) (pc : Nat → Int32) (N : List (List Nat × Nat)), j + R.length = 10 → TXA (HA g c0 s0 (N).length (256 + E.length) (if f = true then 1 else 0) (lay (lay kb 64 tb) 256 (E.map sb)) nm pc) 7314866860 j R → TOK R → NAM (HA g c0 s0 (N).length (256 + E.length) (if f = true then 1 else 0) (lay (lay kb 64 tb) 256 (E.map sb)) nm pc) N nm pc → am_g (HA g c0 s0 (N).length (256 + E.length) (if f = true then 1 else 0) (lay (lay kb 64 tb) 256 (E.map sb)) nm pc) 7264534539 0 = .ref 7281313388 → am_g (HA g c0 s0 (N).length (256 + E.length) (if f = true then 1 else 0) (lay (lay kb 64 tb) 256 (E.map sb)) nm pc) 7264534539 2 = .ref 7314866860 → (txG f N (256 + E.length) R).1.length < 95 → 256 + (E ++ (txG f N (256 + E.length) R).2).length + 2 < 2048 → 440 ≤ c0 →
    ∃ g' nm' pc', am_G (d + 11) 199 522 [some (.ref 7264534539), some (.int t), some (.int (Int32.ofNat j))] [] (HA g c0 s0 (N).length (256 + E.length) (if f = true then 1 else 0) (lay (lay kb 64 tb) 256 (E.map sb)) nm pc) = am_G (d + 11) 199 547 [some (.ref 7264534539), some (.int t), some (.int (Int32.ofNat 10))] [] (HA g' (c0 + txC f R) (s0 + txS f R) ((txG f N (256 + E.length) R).1).length (256 + (E ++ (txG f N (256 + E.length) R).2).length) (if f = true then 1 else 0) (lay (lay kb 64 tb) 256 ((E ++ (txG f N (256 + E.length) R).2).map sb)) nm' pc') ∧ NAM (HA g' (c0 + txC f R) (s0 + txS f R) ((txG f N (256 + E.length) R).1).length (256 + (E ++ (txG f N (256 + E.length) R).2).length) (if f = true then 1 else 0) (lay (lay kb 64 tb) 256 ((E ++ (txG f N (256 + E.length) R).2).map sb)) nm' pc') ((txG f N (256 + E.length) R).1) nm' pc' ∧ FRM (HA g c0 s0 (N).length (256 + E.length) (if f = true then 1 else 0) (lay (lay kb 64 tb) 256 (E.map sb)) nm pc) (HA g' (c0 + txC f R) (s0 + txS f R) ((txG f N (256 + E.length) R).1).length (256 + (E ++ (txG f N (256 + E.length) R).2).length) (if f = true then 1 else 0) (lay (lay kb 64 tb) 256 ((E ++ (txG f N (256 + E.length) R).2).map sb)) nm' pc') := by
  intro R
  induction R with
  | nil =>
    intro j tb E g c0 s0 nm pc N hj hA hT hN ra0 ra2 hb hh hc
    have ej : j = 10 := by simpa using hj
    have c1 : (Int32.ofNat 10 ≤ Int32.ofNat j) = True := (n_le (by omega) (by omega)).trans (eq_true (by omega))
    have an : am_n 7314866860 = 10 := rfl
    have e1 : (E ++ (txG f N (256 + E.length) []).2) = E := List.append_nil E
    have e2 : (txG f N (256 + E.length) []).1 = N := rfl
    rw [e1, e2]
    refine ⟨g, nm, pc, ?_, hN, FRM_r⟩
    rw [z199_522]
    simp (disch := (refine id ?_; first | with_reducible assumption | exact Nat.ne_of_beq_eq_false rfl | with_unfolding_all exact rfl | with_unfolding_all exact Nat.le_of_ble_eq_true rfl | (simp only [am_cat_nil, am_cat_int, am_cat_ref, am_cat_null, am_cat_long, Nat.reduceAdd, Nat.reduceLeDiff]; done) | omega | exact i_bnd2 (by simp only [am_n, Nat.reduceDiv, Nat.reduceMod, Nat.reduceMul, Nat.reduceAdd]; omega) | decide | fail)) only [z199_458, z199_459, z199_461, z199_462, z199_465, z199_466, z199_469, z199_470, z199_471, z199_472, z199_475, z199_476, z199_477, z199_480, z199_483, z199_487, z199_489, z199_490, z199_493, z199_494, z199_497, z199_498, z199_499, z199_502, z199_503, z199_504, z199_505, z199_506, z199_509, z199_510, z199_511, z199_514, z199_517, z199_521, z199_523, z199_524, z199_527, z199_528, z199_531, z199_532, z199_533, z199_536, z199_537, z199_538, z199_541, z199_544, z199_550, z199_553, HA_r0, HA_r1, HA_r2, HA_r3, HA_r4, HA_r5, HA_a0, HA_a1, HA_a2, HA_w3, HA_w4, HA_w5, HA_b0, HA_b1, HA_b2, ra0, ra2, c1, an, ej, ↓am_kc_f, am_kc_s, ↓reduceIte, i_10, i_00, i_eqll, i_lell, Nat.reduceEqDiff, Nat.reduceLeDiff, am_then_some, am_tl1, am_tl0, List.nil_append, Nat.reduceAdd, ad2]
    rfl
  | cons ts r ih =>
    intro j tb E g c0 s0 nm pc N hj hA hT hN ra0 ra2 hb hh hc
    have hj' : j + r.length + 1 = 10 := hj
    have c1 : (Int32.ofNat 10 ≤ Int32.ofNat j) = False := (n_le (by omega) (by omega)).trans (eq_false (by omega))
    have an : am_n 7314866860 = 10 := rfl
    have t1 : (Int32.ofNat j).toNatClampNeg = j := tn_of (by omega)
    have b1 : ¬ (Int32.ofNat j < 0 ∨ am_n 7314866860 ≤ (Int32.ofNat j).toNatClampNeg) := i_bnd2 (by simp only [am_n, Nat.reduceDiv, Nat.reduceMod]; omega)
    have k1 : Int32.ofNat j + 1 = Int32.ofNat (j + 1) := n_add (y := 1)
    obtain ⟨⟨a, a1, a2⟩, a3⟩ := hA
    obtain ⟨u1, u2⟩ := hT ts (List.mem_cons_self)
    have G1 : (txG f N (256 + E.length) (ts :: r)).1 = (txG f (asG f N (256 + E.length) ts).1 (256 + E.length + (asG f N (256 + E.length) ts).2.length) r).1 := rfl
    have G2 : (txG f N (256 + E.length) (ts :: r)).2 = (asG f N (256 + E.length) ts).2 ++ (txG f (asG f N (256 + E.length) ts).1 (256 + E.length + (asG f N (256 + E.length) ts).2.length) r).2 := rfl
    have q1 := txG_le (f := f) r (asG f N (256 + E.length) ts).1 (256 + E.length + (asG f N (256 + E.length) ts).2.length)
    rw [G1] at hb
    rw [G2, List.length_append, List.length_append] at hh
    obtain ⟨g1, nm1, pc1, B, B2, B3⟩ := rd_M (d := d + 1) a2 hN u1 u2 (by omega) (by omega) hc
    have ek : lay (lay (lay kb 64 tb) 256 (E.map sb)) (256 + E.length) ((asG f N (256 + E.length) ts).2.map sb) = lay (lay kb 64 tb) 256 ((E ++ (asG f N (256 + E.length) ts).2).map sb) := by
      rw [List.map_append, ← lay_app, List.length_map]
    rw [ek] at B B2 B3
    have B : am_M (d + 11) 201 _ _ = _ := B
    have el : 256 + E.length + (asG f N (256 + E.length) ts).2.length = 256 + (E ++ (asG f N (256 + E.length) ts).2).length := by rw [List.length_append]; omega
    rw [el] at B B2 B3 G1 G2 hb hh
    have li : am_i 7314866860 < c0 := Nat.lt_of_lt_of_le (by decide) hc
    have lk : am_i 7264534539 < c0 := Nat.lt_of_lt_of_le (by decide) hc
    obtain ⟨g2, nm2, pc2, I, I2, I3⟩ := ih (j + 1) tb (E ++ (asG f N (256 + E.length) ts).2) g1 (c0 + asCs f ts) (s0 + asSs f ts) nm1 pc1 (asG f N (256 + E.length) ts).1 (by omega) (TXA_m (by show c0 ≤ c0 + asCs f ts; omega) B3 li (by decide) (by decide) (by decide) (by decide) _ _ a3) (fun x hx_ => hT x (List.mem_cons_of_mem _ hx_)) B2
      ((B3 7264534539 0 lk (fun _ => by decide) (by decide) (by decide) (by decide)).trans ra0) ((B3 7264534539 2 lk (fun _ => by decide) (by decide) (by decide) (by decide)).trans ra2) hb (by rw [List.length_append]; omega) (by omega)
    have ec : c0 + txC f (ts :: r) = c0 + asCs f ts + txC f r := by show c0 + (asCs f ts + txC f r) = _; omega
    have es : s0 + txS f (ts :: r) = s0 + asSs f ts + txS f r := by show s0 + (asSs f ts + txS f r) = _; omega
    rw [ec, es, G1, G2, ← List.append_assoc]
    refine ⟨g2, nm2, pc2, ?_, I2, FRM_t B3 (by show c0 ≤ c0 + asCs f ts; omega) I3⟩
    rw [z199_522]
    simp (disch := (refine id ?_; first | with_reducible assumption | exact Nat.ne_of_beq_eq_false rfl | with_unfolding_all exact rfl | with_unfolding_all exact Nat.le_of_ble_eq_true rfl | (simp only [am_cat_nil, am_cat_int, am_cat_ref, am_cat_null, am_cat_long, Nat.reduceAdd, Nat.reduceLeDiff]; done) | omega | exact i_bnd2 (by simp only [am_n, Nat.reduceDiv, Nat.reduceMod, Nat.reduceMul, Nat.reduceAdd]; omega) | decide | fail)) only [z199_458, z199_459, z199_461, z199_462, z199_465, z199_466, z199_469, z199_470, z199_471, z199_472, z199_475, z199_476, z199_477, z199_480, z199_483, z199_487, z199_489, z199_490, z199_493, z199_494, z199_497, z199_498, z199_499, z199_502, z199_503, z199_504, z199_505, z199_506, z199_509, z199_510, z199_511, z199_514, z199_517, z199_521, z199_523, z199_524, z199_527, z199_528, z199_531, z199_532, z199_533, z199_536, z199_537, z199_538, z199_541, z199_544, z199_550, z199_553, HA_r0, HA_r1, HA_r2, HA_r3, HA_r4, HA_r5, HA_a0, HA_a1, HA_a2, HA_w3, HA_w4, HA_w5, HA_b0, HA_b1, HA_b2, ra0, ra2, c1, t1, b1, k1, a1, B, I, an, ↓am_kc_f, am_kc_s, ↓reduceIte, i_10, i_00, i_eqll, i_lell, Nat.reduceEqDiff, Nat.reduceLeDiff, am_then_some, am_tl1, am_tl0, List.nil_append, Nat.reduceAdd, ad2]
