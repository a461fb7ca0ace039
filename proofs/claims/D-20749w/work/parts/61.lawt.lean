/-! the law tells all its text (printed by gen/lawt.py) -/
set_option maxRecDepth 100000
set_option maxHeartbeats 4000000
def gL (g : Nat → Nat → Value) (pl il : Nat → Int64) : Nat → Nat → Value := fun a k => if a = 124805713963 then .long (pl k) else if a = 124822491179 then .long (il k) else g a k
def HL (g : Nat → Nat → Value) (c0 s0 : Nat) (t : List Nat) (two pl il : Nat → Int64) : am_H := HWt (gL g pl il) c0 s0 t two
theorem HL_q {g : Nat → Nat → Value} {c0 s0 : Nat} {two pl il : Nat → Int64} {t : List Nat} : am_g (HL g c0 s0 t two pl il) 124772155947 0 = .long (Int64.ofNat t.length) := rfl
theorem HL_two {g : Nat → Nat → Value} {c0 s0 : Nat} {two pl il : Nat → Int64} {t : List Nat} {j : Nat} : am_g (HL g c0 s0 t two pl il) 124839264427 j = .long (two j) := rfl
theorem HL_p {g : Nat → Nat → Value} {c0 s0 : Nat} {two pl il : Nat → Int64} {t : List Nat} {j : Nat} {w : Int64} : am_p (HL g c0 s0 t two pl il) 124805713963 j (.long w) = HL g c0 s0 t two (up pl j w) il := by
  refine Prod.ext rfl (Prod.ext rfl ?_)
  funext b i
  show (if b = 124805713963 ∧ i = j then _ else (HL g c0 s0 t two pl il).2.2 b i) = (HL g c0 s0 t two (up pl j w) il).2.2 b i
  by_cases h : b = 124805713963
  · subst h
    by_cases h2 : i = j
    · subst h2; simp [HL, HWt, HW, gL, up]
    · simp [HL, HWt, HW, gL, up, h2]
  · simp [HL, HWt, HW, gL, up, h]
theorem HL_i {g : Nat → Nat → Value} {c0 s0 : Nat} {two pl il : Nat → Int64} {t : List Nat} {j : Nat} {w : Int64} : am_p (HL g c0 s0 t two pl il) 124822491179 j (.long w) = HL g c0 s0 t two pl (up il j w) := by
  refine Prod.ext rfl (Prod.ext rfl ?_)
  funext b i
  show (if b = 124822491179 ∧ i = j then _ else (HL g c0 s0 t two pl il).2.2 b i) = (HL g c0 s0 t two pl (up il j w)).2.2 b i
  by_cases h : b = 124822491179
  · subst h
    by_cases h2 : i = j
    · subst h2; simp [HL, HWt, HW, gL, up]
    · simp [HL, HWt, HW, gL, up, h2]
  · simp [HL, HWt, HW, gL, up, h]
theorem HL_low {g : Nat → Nat → Value} {c0 s0 : Nat} {two pl il : Nat → Int64} {t : List Nat} {x k : Nat} (hx : am_i x < 286) : am_g (HL g c0 s0 t two pl il) x k = g x k := by
  have n0 : x ≠ 4798283777 := fun e => by rw [e] at hx; exact absurd hx (by decide)
  have n1 : x ≠ 4815189033 := fun e => by rw [e] at hx; exact absurd hx (by decide)
  have n2 : x ≠ 124772155947 := fun e => by rw [e] at hx; exact absurd hx (by decide)
  have n3 : x ≠ 124839264427 := fun e => by rw [e] at hx; exact absurd hx (by decide)
  have n4 : x ≠ 124805713963 := fun e => by rw [e] at hx; exact absurd hx (by decide)
  have n5 : x ≠ 124822491179 := fun e => by rw [e] at hx; exact absurd hx (by decide)
  show (if x = 4798283777 then _ else if x = 4815189033 then _ else if x = 124772155947 then _ else if x = 124839264427 then _ else if x = 124805713963 then _ else if x = 124822491179 then _ else g x k) = _
  rw [if_neg n0, if_neg n1, if_neg n2, if_neg n3, if_neg n4, if_neg n5]
theorem tella_HL {g : Nat → Nat → Value} {c0 s0 : Nat} {two pl il : Nat → Int64} {t : List Nat} {d : Nat} {x y : Int32} (ht : t.length + 70 < 1999) : am_M (d + 7) 5 [.ref 4798283777, .ref 124772155947, .int x, .int y, .ref 124839264427] (HL g c0 s0 t two pl il) = some (none, HL g c0 s0 (t ++ txL (cmOf x y).lx) (twF two t.length (cmOf x y)) pl il) := tella_ok ht
theorem put_HL {g : Nat → Nat → Value} {c0 s0 : Nat} {two pl il : Nat → Int64} {t : List Nat} {d : Nat} (ht : t.length < 1999) : am_M (d + 3) 1 [.ref 4798283777, .ref 124772155947, .int 59] (HL g c0 s0 t two pl il) = some (none, HL g c0 s0 (t ++ [59]) two pl il) := put_ok_59 ht
theorem wd_22H {g : Nat → Nat → Value} {c0 s0 : Nat} {two pl il : Nat → Int64} {t : List Nat} {d : Nat} (ht : t.length + 8 < 1999) : am_M (d + 4) 3 [.ref 4798283777, .ref 124772155947, .long 5570746397223100481] (HL g c0 s0 t two pl il) = some (none, HL g c0 s0 (t ++ [77, 79, 68, 85, 76, 69, 32, 65]) two pl il) := wd_22 ht
theorem wd_23H {g : Nat → Nat → Value} {c0 s0 : Nat} {two pl il : Nat → Int64} {t : List Nat} {d : Nat} (ht : t.length + 8 < 1999) : am_M (d + 4) 3 [.ref 4798283777, .ref 124772155947, .long 4260482566824206409] (HL g c0 s0 t two pl il) = some (none, HL g c0 s0 (t ++ [59, 32, 70, 82, 79, 77, 32, 73]) two pl il) := wd_23 ht
theorem wd_24H {g : Nat → Nat → Value} {c0 s0 : Nat} {two pl il : Nat → Int64} {t : List Nat} {d : Nat} (ht : t.length + 8 < 1999) : am_M (d + 4) 3 [.ref 4798283777, .ref 124772155947, .long 7948701008950545744] (HL g c0 s0 t two pl il) = some (none, HL g c0 s0 (t ++ [110, 79, 117, 116, 32, 73, 77, 80]) two pl il) := wd_24 ht
theorem wd_25H {g : Nat → Nat → Value} {c0 s0 : Nat} {two pl il : Nat → Int64} {t : List Nat} {d : Nat} (ht : t.length + 8 < 1999) : am_M (d + 4) 3 [.ref 4798283777, .ref 124772155947, .long 5715723374969383284] (HL g c0 s0 t two pl il) = some (none, HL g c0 s0 (t ++ [79, 82, 84, 32, 87, 114, 105, 116]) two pl il) := wd_25 ht
theorem wd_26H {g : Nat → Nat → Value} {c0 s0 : Nat} {two pl il : Nat → Int64} {t : List Nat} {d : Nat} (ht : t.length + 8 < 1999) : am_M (d + 4) 3 [.ref 4798283777, .ref 124772155947, .long 7298486116617836097] (HL g c0 s0 t two pl il) = some (none, HL g c0 s0 (t ++ [101, 73, 110, 116, 59, 32, 86, 65]) two pl il) := wd_26 ht
theorem wd_27H {g : Nat → Nat → Value} {c0 s0 : Nat} {two pl il : Nat → Int64} {t : List Nat} {d : Nat} (ht : t.length + 8 < 1999) : am_M (d + 4) 3 [.ref 4798283777, .ref 124772155947, .long 5917836753618363180] (HL g c0 s0 t two pl il) = some (none, HL g c0 s0 (t ++ [82, 32, 97, 44, 98, 44, 99, 44]) two pl il) := wd_27 ht
theorem wd_28H {g : Nat → Nat → Value} {c0 s0 : Nat} {two pl il : Nat → Int64} {t : List Nat} {d : Nat} (ht : t.length + 8 < 1999) : am_M (d + 4) 3 [.ref 4798283777, .ref 124772155947, .long 7222165553212114757] (HL g c0 s0 t two pl il) = some (none, HL g c0 s0 (t ++ [100, 58, 73, 78, 84, 69, 71, 69]) two pl il) := wd_28 ht
theorem wd_29H {g : Nat → Nat → Value} {c0 s0 : Nat} {two pl il : Nat → Int64} {t : List Nat} {d : Nat} (ht : t.length + 8 < 1999) : am_M (d + 4) 3 [.ref 4798283777, .ref 124772155947, .long 5925365353877164626] (HL g c0 s0 t two pl il) = some (none, HL g c0 s0 (t ++ [82, 59, 32, 101, 58, 65, 82, 82]) two pl il) := wd_29 ht
theorem wd_30H {g : Nat → Nat → Value} {c0 s0 : Nat} {two pl il : Nat → Int64} {t : List Nat} {d : Nat} (ht : t.length + 8 < 1999) : am_M (d + 4) 3 [.ref 4798283777, .ref 124772155947, .long 4708895147883901789] (HL g c0 s0 t two pl il) = some (none, HL g c0 s0 (t ++ [65, 89, 91, 48, 46, 46, 51, 93]) two pl il) := wd_30 ht
theorem wd_31H {g : Nat → Nat → Value} {c0 s0 : Nat} {two pl il : Nat → Int64} {t : List Nat} {d : Nat} (ht : t.length + 8 < 1999) : am_M (d + 4) 3 [.ref 4798283777, .ref 124772155947, .long 5712288676584899911] (HL g c0 s0 t two pl il) = some (none, HL g c0 s0 (t ++ [79, 70, 32, 73, 78, 84, 69, 71]) two pl il) := wd_31 ht
theorem wd_32H {g : Nat → Nat → Value} {c0 s0 : Nat} {two pl il : Nat → Int64} {t : List Nat} {d : Nat} (ht : t.length + 8 < 1999) : am_M (d + 4) 3 [.ref 4798283777, .ref 124772155947, .long 4995119946444130121] (HL g c0 s0 t two pl il) = some (none, HL g c0 s0 (t ++ [69, 82, 59, 32, 66, 69, 71, 73]) two pl il) := wd_32 ht
theorem wd_33H {g : Nat → Nat → Value} {c0 s0 : Nat} {two pl il : Nat → Int64} {t : List Nat} {d : Nat} (ht : t.length + 8 < 1999) : am_M (d + 4) 3 [.ref 4798283777, .ref 124772155947, .long 5629499534213120000] (HL g c0 s0 t two pl il) = some (none, HL g c0 s0 (t ++ [78, 32]) two pl il) := wd_33 ht
theorem wd_34H {g : Nat → Nat → Value} {c0 s0 : Nat} {two pl il : Nat → Int64} {t : List Nat} {d : Nat} (ht : t.length + 8 < 1999) : am_M (d + 4) 3 [.ref 4798283777, .ref 124772155947, .long 2325350837112614400] (HL g c0 s0 t two pl il) = some (none, HL g c0 s0 (t ++ [32, 69, 78, 68, 32, 65, 46]) two pl il) := wd_34 ht
theorem wd_35H {g : Nat → Nat → Value} {c0 s0 : Nat} {two pl il : Nat → Int64} {t : List Nat} {d : Nat} (ht : t.length + 8 < 1999) : am_M (d + 4) 3 [.ref 4798283777, .ref 124772155947, .long 1900] (HL g c0 s0 t two pl il) = some (none, HL g c0 s0 (t ++ [7, 108]) two pl il) := wd_35 ht
def hdT : List Nat := [77, 79, 68, 85, 76, 69, 32, 65, 59, 32, 70, 82, 79, 77, 32, 73, 110, 79, 117, 116, 32, 73, 77, 80, 79, 82, 84, 32, 87, 114, 105, 116, 101, 73, 110, 116, 59, 32, 86, 65, 82, 32, 97, 44, 98, 44, 99, 44, 100, 58, 73, 78, 84, 69, 71, 69, 82, 59, 32, 101, 58, 65, 82, 82, 65, 89, 91, 48, 46, 46, 51, 93, 79, 70, 32, 73, 78, 84, 69, 71, 69, 82, 59, 32, 66, 69, 71, 73, 78, 32]
theorem hdT_eq : hdT = txL hdL ++ [32] := by decide +kernel
theorem hdT_len : hdT.length = 90 := rfl
/-- a script's commands -/
def cmL (sx : Nat → Int32) : Nat → List Cmd
  | 0 => []
  | n + 1 => cmL sx n ++ [cmOf (sx (2 * n)) (sx (2 * n + 1))]
theorem cmL_len {sx : Nat → Int32} {n : Nat} : (cmL sx n).length = n := by
  induction n with
  | zero => rfl
  | succ n ih => rw [cmL, List.length_append, ih]; rfl
theorem okC_app {l m : List Cmd} (h : okC l) (h2 : okC m) : okC (l ++ m) := by
  induction l with
  | nil => exact h2
  | cons c l ih => exact ⟨h.1, ih h.2⟩
theorem cmL_ok {sx : Nat → Int32} {n : Nat} : okC (cmL sx n) := by
  induction n with
  | zero => exact trivial
  | succ n ih => exact okC_app ih ⟨cmOf_ok, trivial⟩
theorem rowL_one {l : List Cmd} {c : Cmd} : txL (rowL (l ++ [c])) = txL (rowL l) ++ (txL c.lx ++ [59]) := by
  rw [rowL_app, txL_app]
  show txL (rowL l) ++ txL (c.lx ++ (iS 0 59 116 :: [])) = _
  rw [txL_app]
  rfl
def plN (sx : Nat → Int32) (n : Nat) : Nat := 90 + (txL (rowL (cmL sx n))).length
/-- whether a command has a statement within -/
def Cmd.has (c : Cmd) : Prop := c.1 ≠ 1 ∧ c.1 ≠ 4
def PLK (sx : Nat → Int32) (pl il : Nat → Int64) (n : Nat) : Prop := ∀ j, j < n → pl j = Int64.ofNat (plN sx j) ∧ ((cmOf (sx (2 * j)) (sx (2 * j + 1))).has → il j = Int64.ofNat (plN sx j + (cmOf (sx (2 * j)) (sx (2 * j + 1))).ofs))
theorem twF_has {two : Nat → Int64} {n : Nat} {c : Cmd} (h : c.has) : twF two n c 1 = Int64.ofNat (n + c.ofs) := by
  obtain ⟨k, a, b, e, s⟩ := c
  obtain ⟨h1, h2⟩ := h
  have h1 : k ≠ 1 := h1
  have h2 : k ≠ 4 := h2
  match k, h1, h2 with
  | 0, _, _ => exact up_eq
  | 1, h, _ => exact absurd rfl h
  | 2, _, _ => exact up_eq
  | 3, _, _ => exact up_eq
  | 4, _, h => exact absurd rfl h
  | k + 5, _, _ => exact up_eq
theorem cell_in {d sa j : Nat} {v : Int32} {h : am_H} (hk : am_k sa = 40) (hn : am_n sa < 1000) (hj : j < am_n sa) (hv : am_g h sa j = .int v) : am_M (d + 1) 4 [.ref sa, .int (Int32.ofNat j)] h = some (some (.int v), h) := by
  have c : (Int32.ofNat (am_n sa) ≤ Int32.ofNat j) = False := (n_le (by omega) (by omega)).trans (eq_false (show ¬ ¬ j < am_n sa by omega))
  have b := n_bnd (n := j) (a := sa) hj (by omega)
  have k2 : 40 ≤ am_k sa ∧ am_k sa < 50 := by rw [hk]; decide
  have t := tn_of (n := j) (by omega)
  rw [e4 rfl]
  simp (disch := (refine id ?_; first | with_reducible assumption | with_unfolding_all exact rfl | with_unfolding_all exact Nat.le_of_ble_eq_true rfl | (simp only [am_cat_nil, am_cat_int, am_cat_ref, am_cat_null, am_cat_long, Nat.reduceAdd, Nat.reduceLeDiff]; done) | omega | (simp only [List.length_append, List.length_cons, List.length_nil]; omega) | exact i_bnd2 (by simp only [am_n, Nat.reduceDiv, Nat.reduceMod, Nat.reduceMul, Nat.reduceAdd]; omega) | decide | fail)) only [z4_0, z4_1, z4_1N, z4_2, z4_3, z4_6, z4_6N, z4_7, z4_8, z4_9, z4_12, z4_13, c, b, t, hv, i_eqll, i_lell, i_ltll, Nat.reduceEqDiff, Nat.reduceLeDiff, Nat.reduceLT, ↓reduceIte, i_10, i_00, am_then_some, am_tl1, am_tl0, i_addl, ad2, Nat.reduceAdd, Int32.reduceToNatClampNeg, List.nil_append]
theorem cell_out {d sa j : Nat} {h : am_H} (hk : am_k sa = 40) (hn : am_n sa < 1000) (hj : ¬ j < am_n sa) (hj2 : j < 1000) : am_M (d + 1) 4 [.ref sa, .int (Int32.ofNat j)] h = some (some (.int 0), h) := by
  have c : (Int32.ofNat (am_n sa) ≤ Int32.ofNat j) = True := (n_le (by omega) (by omega)).trans (eq_true hj)
  have k2 : 40 ≤ am_k sa ∧ am_k sa < 50 := by rw [hk]; decide
  rw [e4 rfl]
  simp (disch := (refine id ?_; first | with_reducible assumption | with_unfolding_all exact rfl | with_unfolding_all exact Nat.le_of_ble_eq_true rfl | (simp only [am_cat_nil, am_cat_int, am_cat_ref, am_cat_null, am_cat_long, Nat.reduceAdd, Nat.reduceLeDiff]; done) | omega | (simp only [List.length_append, List.length_cons, List.length_nil]; omega) | exact i_bnd2 (by simp only [am_n, Nat.reduceDiv, Nat.reduceMod, Nat.reduceMul, Nat.reduceAdd]; omega) | decide | fail)) only [z4_0, z4_1, z4_1N, z4_2, z4_3, z4_6, z4_6N, z4_7, z4_8, z4_9, z4_12, z4_13, c, i_eqll, i_lell, i_ltll, Nat.reduceEqDiff, Nat.reduceLeDiff, Nat.reduceLT, ↓reduceIte, i_10, i_00, am_then_some, am_tl1, am_tl0, i_addl, ad2, Nat.reduceAdd, Int32.reduceToNatClampNeg, List.nil_append]
/-- the script: what stands in it; 0 behind its end -/
def SCR (g : Nat → Nat → Value) (sa : Nat) (sx : Nat → Int32) : Prop := am_k sa = 40 ∧ am_i sa < 286 ∧ am_n sa < 261 ∧ (∀ j, j < am_n sa → g sa j = .int (sx j)) ∧ ∀ j, ¬ j < am_n sa → sx j = 0
def scN (sa : Nat) : Nat := min 26 ((am_n sa + 1) / 2)
theorem cell_HL {g : Nat → Nat → Value} {c0 s0 : Nat} {two pl il : Nat → Int64} {t : List Nat} {d sa : Nat} {sx : Nat → Int32} (S : SCR g sa sx) {j : Nat} (hj : j < 1000) : am_M (d + 1) 4 [.ref sa, .int (Int32.ofNat j)] (HL g c0 s0 t two pl il) = some (some (.int (sx j)), HL g c0 s0 t two pl il) := by
  obtain ⟨s1, s2, s3, s4, s5⟩ := S
  by_cases h : j < am_n sa
  · exact cell_in s1 (by omega) h ((HL_low s2).trans (s4 j h))
  · rw [s5 j h]
    exact cell_out s1 (by omega) h hj
theorem law_tell {g : Nat → Nat → Value} {c0 s0 : Nat} {d sa : Nat} {sx : Nat → Int32} {l10 l11 l12 l13 : Option Value} (S : SCR g sa sx) : ∀ (m k : Nat) (two pl il : Nat → Int64), k + m = scN sa → PLK sx pl il k →
    ∃ two2 pl2 il2, PLK sx pl2 il2 (scN sa) ∧ am_G (d + 7) 0 144 [some (.ref sa), some (.ref 4798283777), some (.ref 124772155947), some (.ref 124788933419), some (.ref 124805713963), some (.ref 124822491179), some (.ref 124839264427), some (.ref 124856169512), some (.int (Int32.ofNat (k))), some (.int (Int32.ofNat (k))), l10, l11, l12, l13] [] (HL g c0 s0 (hdT ++ txL (rowL (cmL sx k))) two pl il) = am_G (d + 7) 0 219 [some (.ref sa), some (.ref 4798283777), some (.ref 124772155947), some (.ref 124788933419), some (.ref 124805713963), some (.ref 124822491179), some (.ref 124839264427), some (.ref 124856169512), some (.int (Int32.ofNat (scN sa))), some (.int (Int32.ofNat (scN sa))), l10, l11, l12, l13] [] (HL g c0 s0 (hdT ++ txL (rowL (cmL sx (scN sa)))) two2 pl2 il2) := by
  have S' := S
  obtain ⟨s1, s2, s3, s4, s5⟩ := S'
  have k2 : 40 ≤ am_k sa ∧ am_k sa < 50 := by rw [s1]; decide
  have kr : am_k sa = 40 := s1
  intro m
  induction m with
  | zero =>
    intro k two pl il hk hP
    have hk : k = scN sa := hk
    refine ⟨two, pl, il, hk ▸ hP, ?_⟩
    have m2 : (2 : Int32) * Int32.ofNat k = Int32.ofNat (2 * k) := n_mul (a := 2)
    have hsc : scN sa = min 26 ((am_n sa + 1) / 2) := rfl
    rw [← hk]
    by_cases c : am_n sa ≤ 2 * k
    · have c1 : (Int32.ofNat (am_n sa) ≤ Int32.ofNat (2 * k)) = True := (n_le (by omega) (by omega)).trans (eq_true (by omega))
      rw [z0_144]
      simp (disch := (refine id ?_; first | with_reducible assumption | with_unfolding_all exact rfl | with_unfolding_all exact Nat.le_of_ble_eq_true rfl | (simp only [am_cat_nil, am_cat_int, am_cat_ref, am_cat_null, am_cat_long, Nat.reduceAdd, Nat.reduceLeDiff]; done) | omega | (simp only [List.length_append, List.length_cons, List.length_nil]; omega) | exact i_bnd2 (by simp only [am_n, Nat.reduceDiv, Nat.reduceMod, Nat.reduceMul, Nat.reduceAdd]; omega) | decide | fail)) only [z0_145, z0_147, z0_148, z0_148N, z0_149, z0_150, z0_153, z0_155, z0_157, z0_160, z0_160N, z0_162, z0_164, z0_164N, z0_165, z0_166, z0_167, z0_168, z0_168N, z0_169, z0_169N, z0_170, z0_170N, z0_171, z0_172, z0_174, z0_175, z0_176, z0_176N, z0_177, z0_178, z0_180, z0_181, z0_182, z0_183, z0_186, z0_186N, z0_188, z0_191, z0_191N, z0_193, z0_195, z0_195N, z0_197, z0_198, z0_199, z0_200, z0_200N, z0_201, z0_201N, z0_202, z0_204, z0_207, z0_209, z0_210, z0_211, z0_213, z0_216, m2, c1, i_eqll, i_lell, i_ltll, Nat.reduceEqDiff, Nat.reduceLeDiff, Nat.reduceLT, ↓reduceIte, i_10, i_00, am_then_some, am_tl1, am_tl0, i_addl, ad2, Nat.reduceAdd, Int32.reduceToNatClampNeg, List.nil_append]
    · have c1 : (Int32.ofNat (am_n sa) ≤ Int32.ofNat (2 * k)) = False := (n_le (by omega) (by omega)).trans (eq_false (by omega))
      have c2 : ((26 : Int32) ≤ Int32.ofNat k) = True := (n_gel k 26 (by omega) (by decide)).trans (eq_true (by show ¬ k < 26; omega))
      rw [z0_144]
      simp (disch := (refine id ?_; first | with_reducible assumption | with_unfolding_all exact rfl | with_unfolding_all exact Nat.le_of_ble_eq_true rfl | (simp only [am_cat_nil, am_cat_int, am_cat_ref, am_cat_null, am_cat_long, Nat.reduceAdd, Nat.reduceLeDiff]; done) | omega | (simp only [List.length_append, List.length_cons, List.length_nil]; omega) | exact i_bnd2 (by simp only [am_n, Nat.reduceDiv, Nat.reduceMod, Nat.reduceMul, Nat.reduceAdd]; omega) | decide | fail)) only [z0_145, z0_147, z0_148, z0_148N, z0_149, z0_150, z0_153, z0_155, z0_157, z0_160, z0_160N, z0_162, z0_164, z0_164N, z0_165, z0_166, z0_167, z0_168, z0_168N, z0_169, z0_169N, z0_170, z0_170N, z0_171, z0_172, z0_174, z0_175, z0_176, z0_176N, z0_177, z0_178, z0_180, z0_181, z0_182, z0_183, z0_186, z0_186N, z0_188, z0_191, z0_191N, z0_193, z0_195, z0_195N, z0_197, z0_198, z0_199, z0_200, z0_200N, z0_201, z0_201N, z0_202, z0_204, z0_207, z0_209, z0_210, z0_211, z0_213, z0_216, m2, c1, c2, i_eqll, i_lell, i_ltll, Nat.reduceEqDiff, Nat.reduceLeDiff, Nat.reduceLT, ↓reduceIte, i_10, i_00, am_then_some, am_tl1, am_tl0, i_addl, ad2, Nat.reduceAdd, Int32.reduceToNatClampNeg, List.nil_append]
  | succ m ih =>
    intro k two pl il hk hP
    have hsc : scN sa = min 26 ((am_n sa + 1) / 2) := rfl
    have hk26 : k < 26 := by omega
    have hkl : 2 * k < am_n sa := by omega
    have tl := row_tl (cmL_ok (sx := sx) (n := k))
    rw [cmL_len] at tl
    have ctl := cm_tl (cmOf_ok (x := sx (2 * k)) (y := sx (2 * k + 1)))
    obtain ⟨t0, et⟩ : ∃ t0, t0 = hdT ++ txL (rowL (cmL sx k)) := ⟨_, rfl⟩
    have lt : t0.length = plN sx k := by rw [et, List.length_append, hdT_len]; rfl
    have lt2 : plN sx k ≤ 90 + 61 * 25 := by unfold plN; omega
    have m2 : (2 : Int32) * Int32.ofNat k = Int32.ofNat (2 * k) := n_mul (a := 2)
    have m3 : Int32.ofNat (2 * k) + 1 = Int32.ofNat (2 * k + 1) := n_add (y := 1)
    have m4 : Int32.ofNat k + 1 = Int32.ofNat (k + 1) := n_add (y := 1)
    have c1 : (Int32.ofNat (am_n sa) ≤ Int32.ofNat (2 * k)) = False := (n_le (by omega) (by omega)).trans (eq_false (by omega))
    have c2 : ((26 : Int32) ≤ Int32.ofNat k) = False := (n_gel k 26 (by omega) (by decide)).trans (eq_false (by show ¬ ¬ k < 26; omega))
    have b1 := n_bnd (n := 2 * k) (a := sa) hkl (by omega)
    have t1 : (Int32.ofNat (2 * k)).toNatClampNeg = 2 * k := tn_of (by omega)
    have t2 : (Int32.ofNat k).toNatClampNeg = k := tn_of (by omega)
    have bp : ¬ (Int32.ofNat k < 0 ∨ am_n 124805713963 ≤ (Int32.ofNat k).toNatClampNeg) := i_bnd2 (by simp only [am_n, Nat.reduceDiv, Nat.reduceMod]; omega)
    have bi : ¬ (Int32.ofNat k < 0 ∨ am_n 124822491179 ≤ (Int32.ofNat k).toNatClampNeg) := i_bnd2 (by simp only [am_n, Nat.reduceDiv, Nat.reduceMod]; omega)
    have rs : ∀ {t two pl il}, am_g (HL g c0 s0 t two pl il) sa (2 * k) = .int (sx (2 * k)) := fun {_ _ _ _} => (HL_low s2).trans (s4 _ hkl)
    have CE := fun (t : List Nat) (two pl il : Nat → Int64) (d : Nat) => cell_HL (c0 := c0) (s0 := s0) (t := t) (two := two) (pl := pl) (il := il) (d := d) S (j := 2 * k + 1) (by omega)
    obtain ⟨C, eC⟩ : ∃ C, C = cmOf (sx (2 * k)) (sx (2 * k + 1)) := ⟨_, rfl⟩
    rw [← eC] at ctl
    have TA' := fun (two pl il : Nat → Int64) => tella_HL (g := g) (c0 := c0) (s0 := s0) (two := two) (pl := pl) (il := il) (t := t0) (d := d) (x := sx (2 * k)) (y := sx (2 * k + 1)) (by omega)
    rw [← eC] at TA'
    have PU := fun (two pl il : Nat → Int64) => put_HL (g := g) (c0 := c0) (s0 := s0) (two := two) (pl := pl) (il := il) (t := t0 ++ txL C.lx) (d := d + 4) (by rw [List.length_append]; omega)
    have tx : t0 ++ txL C.lx ++ [59] = hdT ++ txL (rowL (cmL sx (k + 1))) := by
      show _ = hdT ++ txL (rowL (cmL sx k ++ [cmOf (sx (2 * k)) (sx (2 * k + 1))]))
      rw [rowL_one, et, eC]
      simp only [List.append_assoc]
    obtain ⟨two2, pl2, il2, q1, q2⟩ := ih (k + 1) (twF two t0.length C) (up pl k (Int64.ofNat t0.length)) (up il k (twF two t0.length C 1)) (by omega) (by
      intro j hj
      by_cases e : j = k
      · subst e
        rw [up_eq, up_eq, lt, ← eC]
        exact ⟨rfl, fun h => twF_has h⟩
      · rw [up_ne e, up_ne e]
        exact hP j (by omega))
    refine ⟨two2, pl2, il2, q1, ?_⟩
    rw [← q2, ← tx, ← et, z0_144]
    simp (disch := (refine id ?_; first | with_reducible assumption | with_unfolding_all exact rfl | with_unfolding_all exact Nat.le_of_ble_eq_true rfl | (simp only [am_cat_nil, am_cat_int, am_cat_ref, am_cat_null, am_cat_long, Nat.reduceAdd, Nat.reduceLeDiff]; done) | omega | (simp only [List.length_append, List.length_cons, List.length_nil]; omega) | exact i_bnd2 (by simp only [am_n, Nat.reduceDiv, Nat.reduceMod, Nat.reduceMul, Nat.reduceAdd]; omega) | decide | fail)) only [z0_145, z0_147, z0_148, z0_148N, z0_149, z0_150, z0_153, z0_155, z0_157, z0_160, z0_160N, z0_162, z0_164, z0_164N, z0_165, z0_166, z0_167, z0_168, z0_168N, z0_169, z0_169N, z0_170, z0_170N, z0_171, z0_172, z0_174, z0_175, z0_176, z0_176N, z0_177, z0_178, z0_180, z0_181, z0_182, z0_183, z0_186, z0_186N, z0_188, z0_191, z0_191N, z0_193, z0_195, z0_195N, z0_197, z0_198, z0_199, z0_200, z0_200N, z0_201, z0_201N, z0_202, z0_204, z0_207, z0_209, z0_210, z0_211, z0_213, z0_216, m2, m3, m4, c1, c2, b1, t1, t2, bp, bi, rs, CE, TA', PU, HL_q, HL_two, HL_p, HL_i, i_eqll, i_lell, i_ltll, Nat.reduceEqDiff, Nat.reduceLeDiff, Nat.reduceLT, ↓reduceIte, i_10, i_00, am_then_some, am_tl1, am_tl0, i_addl, ad2, Nat.reduceAdd, Int32.reduceToNatClampNeg, List.nil_append]
theorem gz {r : List Nat} {z k : Nat} : (r ++ List.replicate z 0).getD k 0 = r.getD k 0 := by
  by_cases h : k < r.length
  · exact getD_appl h
  · rw [List.getD_eq_getElem?_getD, List.getElem?_append_right (by omega), List.getD_eq_getElem?_getD, List.getElem?_eq_none (l := r) (by omega), List.getElem?_replicate]
    split <;> rfl
theorem pk_z {r : List Nat} {z k : Nat} : pk (r ++ List.replicate z 0) k = pk r k := by unfold pk; rw [gz, gz, gz, gz]
/-- the tape when all is fed -/
def padT (t : List Nat) : List Nat := cl t ++ List.replicate ((20 - t.length % 20) % 20) 0
theorem mw_feedlast {g : Nat → Nat → Value} {c0 s0 : Nat} {two : Nat → Int64} {t : List Nat} {d : Nat} (ht : t.length < 1980) :
    am_M (d + 3) 2 [.ref 4798283777, .ref 124772155947] (HWt g c0 s0 t two) = am_then (am_M (d + 2) 32 [.ref 4798283777, .int (Int32.ofNat t.length)] (HW g c0 s0 (padT t).length (bF (TF (padT t))) (up (qF t) 0 0) two)) (fun v h => am_G (d + 2) 2 46 [some (.ref 4798283777), some (.ref 124772155947), some (.int (Int32.ofNat t.length))] (v.toList ++ []) h) := by
  have hbk : bk t + t.length % 20 = t.length := by unfold bk; omega
  have q0 : qF t 0 = Int64.ofNat t.length := rfl
  have j1 : (Int64.ofNat t.length).toInt32 = Int32.ofNat t.length := n_6432 (by omega)
  have j2 : Int32.ofNat t.length - Int32.ofNat t.length / 20 * 20 = Int32.ofNat (t.length % 20) := n_rem (by omega) (by decide)
  rw [e2 rfl rfl]
  by_cases z : t.length % 20 = 0
  · have c : (Int32.ofNat (t.length % 20) = 0) = True := by rw [z]; simp
    have e : padT t = cl t := by unfold padT; rw [z]; exact List.append_nil _
    have e2' : bk t = t.length := by omega
    have e3' : (cl t).take (bk t) = cl t := List.take_of_length_le (by rw [cl_len]; omega)
    rw [e, cl_len]
    unfold HWt
    rw [e3', e2']
    simp (disch := (refine id ?_; first | with_reducible assumption | with_reducible exact pb _ | with_unfolding_all exact rfl | with_unfolding_all exact Nat.le_of_ble_eq_true rfl | (simp only [am_cat_nil, am_cat_int, am_cat_ref, am_cat_null, am_cat_long, Nat.reduceAdd, Nat.reduceLeDiff]; done) | omega | exact i_bnd2 (by simp only [am_n, Nat.reduceDiv, Nat.reduceMod, Nat.reduceMul, Nat.reduceAdd]; omega) | decide | fail)) only [z2_0, z2_0N, z2_1, z2_2, z2_3, z2_4, z2_5, z2_6, z2_8, z2_9, z2_12, z2_12N, z2_13, z2_13N, z2_14, z2_15, z2_16, z2_17, z2_17N, z2_18, z2_19, z2_20, z2_21, z2_21N, z2_22, z2_23, z2_24, z2_25, z2_25N, z2_26, z2_27, z2_28, z2_29, z2_29N, z2_30, z2_31, z2_32, z2_33, z2_36, z2_36I, z2_37, z2_37N, z2_38, z2_39, z2_40, z2_41, z2_41N, z2_42, z2_43, HW_r0, HW_r1, HW_a0, HW_a1, HW_a2, HW_w1, HW_b0, HW_b1, HW_b2, q0, j1, j2, c, ↓reduceIte, i_10, i_00, am_then_some, am_tl1, am_tl0, i_addl, ad2, Nat.reduceAdd, Int32.reduceToNatClampNeg, List.nil_append]
  · have c : (Int32.ofNat (t.length % 20) = 0) = False := (n_z (by omega)).trans (eq_false z)
    have eb : blk t = (cl t).drop (bk t) := by
      unfold blk bk
      rw [show (t.length - 1) / 20 = t.length / 20 by omega]
    have lb : (blk t).length = t.length % 20 := by rw [eb, List.length_drop, cl_len]; omega
    have h8 : ∀ k, (blk t ++ List.replicate (20 - t.length % 20) 0).getD k 0 < 128 := fun k => by rw [gz, eb]; exact dr_getD
    have pb : ∀ k, pk (blk t) k < 2147483648 := fun k => by rw [eb]; exact pkb (fun _ => dr_getD) k
    have F := feed_l (g := g) (c0 := c0) (s0 := s0) (two := two) (q := qF t) (m := (cl t).take (bk t)) (r := blk t ++ List.replicate (20 - t.length % 20) 0) (by rw [List.length_append, lb, List.length_replicate]; omega) h8 (by rw [List.length_take, cl_len]; omega) (d := d)
    rw [pk_z, pk_z, pk_z, pk_z, pk_z] at F
    have l1 : ((cl t).take (bk t)).length = bk t := by rw [List.length_take, cl_len]; omega
    have e : (cl t).take (bk t) ++ (blk t ++ List.replicate (20 - t.length % 20) 0) = padT t := by
      unfold padT
      rw [← List.append_assoc, eb, List.take_append_drop, show (20 - t.length % 20) % 20 = 20 - t.length % 20 by omega]
    have l2 : bk t + 20 = (padT t).length := by unfold padT; rw [List.length_append, cl_len, List.length_replicate]; omega
    rw [l1, e, l2] at F
    have p1 : qF t 1 = Int64.ofNat (pk (blk t) 0) := rfl
    have p2 : qF t 2 = Int64.ofNat (pk (blk t) 4) := rfl
    have p3 : qF t 3 = Int64.ofNat (pk (blk t) 8) := rfl
    have p4 : qF t 4 = Int64.ofNat (pk (blk t) 12) := rfl
    have p5 : qF t 5 = Int64.ofNat (pk (blk t) 16) := rfl
    unfold HWt
    simp (disch := (refine id ?_; first | with_reducible assumption | with_reducible exact pb _ | with_unfolding_all exact rfl | with_unfolding_all exact Nat.le_of_ble_eq_true rfl | (simp only [am_cat_nil, am_cat_int, am_cat_ref, am_cat_null, am_cat_long, Nat.reduceAdd, Nat.reduceLeDiff]; done) | omega | exact i_bnd2 (by simp only [am_n, Nat.reduceDiv, Nat.reduceMod, Nat.reduceMul, Nat.reduceAdd]; omega) | decide | fail)) only [z2_0, z2_0N, z2_1, z2_2, z2_3, z2_4, z2_5, z2_6, z2_8, z2_9, z2_12, z2_12N, z2_13, z2_13N, z2_14, z2_15, z2_16, z2_17, z2_17N, z2_18, z2_19, z2_20, z2_21, z2_21N, z2_22, z2_23, z2_24, z2_25, z2_25N, z2_26, z2_27, z2_28, z2_29, z2_29N, z2_30, z2_31, z2_32, z2_33, z2_36, z2_36I, z2_37, z2_37N, z2_38, z2_39, z2_40, z2_41, z2_41N, z2_42, z2_43, HW_r0, HW_r1, HW_a0, HW_a1, HW_a2, HW_w1, HW_b0, HW_b1, HW_b2, q0, j1, j2, c, F, l64_32, p1, p2, p3, p4, p5, ↓reduceIte, i_10, i_00, am_then_some, am_tl1, am_tl0, i_addl, ad2, Nat.reduceAdd, Int32.reduceToNatClampNeg, List.nil_append]
