/-! heaps of layers, all addresses written out (printed by gen/lit.py) -/
set_option maxRecDepth 100000
set_option maxHeartbeats 4000000
/-- what comes behind a call, without a function to go into -/
noncomputable def am_kc (x : Option am_R) (d m pc : Nat) (L : am_L) (r : List Value) : Option am_R := am_then x (fun v h2 => am_G d m pc L (v.toList ++ r) h2)
theorem am_kc_f {x : Option am_R} {d m pc : Nat} {L : am_L} {r : List Value} : am_then x (fun v h2 => am_G d m pc L (v.toList ++ r) h2) = am_kc x d m pc L r := rfl
theorem am_kc_s {v : Option Value} {h : am_H} {d m pc : Nat} {L : am_L} {r : List Value} : am_kc (some (v, h)) d m pc L r = am_G d m pc L (v.toList ++ r) h := rfl
def wo (W : Nat → Nat → Value) (a : Nat) (F : Nat → Value) : Nat → Nat → Value := fun b => if b = a then F else W b
def wb (W : Nat → Nat → Value) : Nat → Nat → Value := W
def ws (W : Nat → Nat → Value) (a k : Nat) (v : Value) : Nat → Nat → Value := fun b j => if b = a ∧ j = k then v else W b j
def hp (A B : Nat → Nat → Value) : Nat → Nat → Value := fun a => if a < 124872818688 then A a else B a
section
variable {c s : Nat} {W A B : Nat → Nat → Value} {a b k n : Nat} {F f : Nat → Value} {v : Value}
theorem wo_eq : wo W a F a k = F k := by unfold wo; rw [if_pos rfl]
theorem wo_ne (h : b ≠ a) : wo W a F b k = W b k := by unfold wo; rw [if_neg h]
theorem wo_f (h : b ≠ a) : wo W a F b = W b := by unfold wo; rw [if_neg h]
theorem wb_d : wb W = W := rfl
theorem wb_r : wb W a k = W a k := rfl
theorem ws_eq : ws (wo W a F) a k v = wo W a (up F k v) := by
  funext b j
  show (if b = a ∧ j = k then v else (if b = a then F else W b) j) = (if b = a then (fun i => if i = k then v else F i) else W b) j
  by_cases h : b = a
  · rw [if_pos h, if_pos h]
    by_cases h2 : j = k
    · rw [if_pos ⟨h, h2⟩]
      show v = if j = k then v else F j
      rw [if_pos h2]
    · rw [if_neg (fun z => h2 z.2)]
      show F j = if j = k then v else F j
      rw [if_neg h2]
  · rw [if_neg (fun z => h z.1), if_neg h, if_neg h]
theorem ws_ne (h : b ≠ a) : ws (wo W b F) a k v = wo (ws W a k v) b F := by
  funext x j
  show (if x = a ∧ j = k then v else (if x = b then F else W x) j) = (if x = b then F else (fun j => if x = a ∧ j = k then v else W x j)) j
  by_cases e : x = b
  · rw [if_pos e, if_pos e, if_neg (fun z => h (e ▸ z.1))]
  · rw [if_neg e, if_neg e]
theorem ws_b : ws (wb W) a k v = wo (wb W) a (up (W a) k v) := by
  funext b j
  show (if b = a ∧ j = k then v else W b j) = (if b = a then (fun i => if i = k then v else W a i) else W b) j
  by_cases h : b = a
  · subst h
    rw [if_pos rfl]
    by_cases h2 : j = k
    · rw [if_pos ⟨rfl, h2⟩]
      show v = if j = k then v else W b j
      rw [if_pos h2]
    · rw [if_neg (fun z => h2 z.2)]
      show W b j = if j = k then v else W b j
      rw [if_neg h2]
  · rw [if_neg (fun z => h z.1), if_neg h]
theorem lw1 (h : a < 124872818688) : am_p (c, s, hp A B) a k v = (c, s, hp (ws A a k v) B) := by
  refine Prod.ext rfl (Prod.ext rfl ?_)
  funext b j
  show (if b = a ∧ j = k then v else (if b < 124872818688 then A b else B b) j) = (if b < 124872818688 then (fun j => if b = a ∧ j = k then v else A b j) else B b) j
  by_cases e : b < 124872818688
  · rw [if_pos e, if_pos e]
  · rw [if_neg e, if_neg e, if_neg (fun (z : b = a ∧ j = k) => e (z.1 ▸ h))]
theorem lw2 (h : 124872818688 ≤ a) : am_p (c, s, hp A B) a k v = (c, s, hp A (ws B a k v)) := by
  refine Prod.ext rfl (Prod.ext rfl ?_)
  funext b j
  show (if b = a ∧ j = k then v else (if b < 124872818688 then A b else B b) j) = (if b < 124872818688 then A b else (fun j => if b = a ∧ j = k then v else B b j)) j
  by_cases e : b < 124872818688
  · rw [if_pos e, if_pos e, if_neg (fun z => by have := z.1 ▸ h; omega)]
  · rw [if_neg e, if_neg e]
theorem lr1 (h : a < 124872818688) : am_g (c, s, hp A B) a k = A a k := by
  show (if a < 124872818688 then A a else B a) k = _
  rw [if_pos h]
theorem lr2 (h : 124872818688 ≤ a) : am_g (c, s, hp A B) a k = B a k := by
  show (if a < 124872818688 then A a else B a) k = _
  rw [if_neg (by omega)]
theorem ln2 (h : 124872818688 ≤ a) : am_new (c, s, hp A B) a n f = (c + 1, s + n, hp A (wo B a f)) := by
  refine Prod.ext rfl (Prod.ext rfl ?_)
  funext b j
  show (if b = a then f j else (if b < 124872818688 then A b else B b) j) = (if b < 124872818688 then A b else (if b = a then f else B b)) j
  by_cases e : b < 124872818688
  · rw [if_pos e, if_pos e, if_neg (fun z => by subst z; omega)]
  · rw [if_neg e, if_neg e]
    split <;> rfl
def wm (W : Nat → Nat → Value) (a : Nat) (f : (Nat → Value) → Nat → Value) : Nat → Nat → Value := fun b => if b = a then f (W a) else W b
theorem wm_id : wm W a (fun F => F) = W := by
  funext b
  show (if b = a then W a else W b) = W b
  split
  · rename_i h; rw [h]
  · rfl
theorem wm_eq {f : (Nat → Value) → Nat → Value} : wm (wo W a F) a f = wo W a (f F) := by
  funext b
  show (if b = a then f (if a = a then F else W a) else if b = a then F else W b) = if b = a then f F else W b
  rw [if_pos rfl]
  split <;> rfl
theorem wm_ne {f : (Nat → Value) → Nat → Value} (h : b ≠ a) : wm (wo W b F) a f = wo (wm W a f) b F := by
  funext x
  show (if x = a then f (if a = b then F else W a) else if x = b then F else W x) = if x = b then F else if x = a then f (W a) else W x
  rw [if_neg (show ¬ a = b from fun e => h e.symm)]
  by_cases e : x = b
  · have e2 : ¬ x = a := fun z => h (e.symm.trans z)
    rw [if_neg e2, if_pos e, if_pos e]
  · rw [if_neg e, if_neg e]
theorem wm_b {f : (Nat → Value) → Nat → Value} : wm (wb W) a f = wo (wb W) a (f (W a)) := rfl
theorem ws_wm {f : (Nat → Value) → Nat → Value} : ws (wm W a f) a k v = wm W a (fun F => up (f F) k v) := by
  funext x j
  show (if x = a ∧ j = k then v else (if x = a then f (W a) else W x) j) = (if x = a then (fun i => if i = k then v else f (W a) i) else W x) j
  by_cases e : x = a
  · rw [if_pos e, if_pos e]
    by_cases q : j = k
    · rw [if_pos ⟨e, q⟩]
      show v = if j = k then v else _
      rw [if_pos q]
    · rw [if_neg (fun z => q z.2)]
      show _ = if j = k then v else _
      rw [if_neg q]
  · rw [if_neg (fun z => e z.1), if_neg e, if_neg e]
theorem hp_b : hp (wb W) (wb W) = W := by
  funext b
  show (if b < 124872818688 then W b else W b) = _
  split <;> rfl
theorem fst_l {α β : Type} {x : α} {y : β} : (x, y).1 = x := rfl
theorem snd_l {α β : Type} {x : α} {y : β} : (x, y).2 = y := rfl
theorem am_al (c n k : Nat) : am_a c n k = 16777216 * c + (64 * n + k) := rfl
theorem am_nl (a : Nat) : am_n a = a / 64 % 262144 := rfl
end
theorem getD_drop {l : List Nat} {i j : Nat} : (l.drop i).getD j 0 = l.getD (i + j) 0 := by
  rw [List.getD_eq_getElem?_getD, List.getElem?_drop, List.getD_eq_getElem?_getD]
theorem half_loop {h : am_H} {a e : Nat} {l : List Nat} {l1 : Option Value} (S : STR h a l) (hl : ∀ j, j < l.length → cLet (l.getD j 0) ∨ cDig (l.getD j 0)) (he : e < 100) {d : Nat} : ∀ (m k : Nat) (x : Int64), (e - k = m ∨ (l.length - k = m ∧ l.length ≤ e)) → k < 100 →
    am_G (d + 4) 24 5 [some (.ref a), l1, some (.int (Int32.ofNat e)), some (.long x), some (.retAddr 0), some (.int (Int32.ofNat k))] [] h = some (some (.long (wF x ((l.drop k).take (e - k)))), h) := by
  obtain ⟨sk, -, -, ll, l8, -⟩ := id S
  have L := str_len (d := d + 2) S
  intro m
  induction m with
  | zero =>
    intro k x hm hk
    have en : (l.drop k).take (e - k) = [] := by
      rcases hm with hm | hm
      · rw [hm]; rfl
      · rw [List.drop_eq_nil_of_le (by omega)]; exact List.take_nil
    rw [en, z24_5]
    by_cases c : e ≤ k
    · have c1 : (Int32.ofNat e ≤ Int32.ofNat k) = True := (n_le (by omega) (by omega)).trans (eq_true (by omega))
      simp (config := {maxSteps := 10000000}) (disch := (refine id ?_; first | exact Nat.ne_of_beq_eq_false rfl | exact Nat.le_of_ble_eq_true rfl | with_unfolding_all exact rfl | with_unfolding_all exact Nat.le_of_ble_eq_true rfl | (simp only [am_cat_nil, am_cat_int, am_cat_ref, am_cat_null, am_cat_long, Nat.reduceAdd, Nat.reduceLeDiff]; done) | assumption | decide | fail)) only [z24_7, z24_8, z24_11, z24_13, z24_13N, z24_14, z24_17, z24_20, z24_21, z24_23, z24_24, z24_24N, z24_25, z24_27, z24_30, z24_33, z24_34, z24_35, z24_38, z24_41, z24_42, c1, L, wm_eq, wm_ne, wm_b, wo_eq, wo_ne, wb_r, ws_eq, ws_ne, ws_b, lw1, lw2, lr1, lr2, ln2, up_eq, up_ne, up_up, fst_l, snd_l, am_al, am_nl, i_eqll, i_10, i_00, Nat.reduceMul, Nat.reduceAdd, Nat.reduceDiv, Nat.reduceMod, Int32.reduceOfNat, Int32.reduceAdd, Int32.reduceSub, Int32.reduceMul, Int32.reduceLT, Int32.reduceLE, Int32.reduceToNatClampNeg, Nat.reduceEqDiff, Nat.reduceLeDiff, Nat.reduceLT, ↓reduceIte, not_true_eq_false, not_false_eq_true, ↓am_kc_f, am_kc_s, am_then_some, am_tl1, am_tl0, List.nil_append, ad2]
      rfl
    · have c1 : (Int32.ofNat e ≤ Int32.ofNat k) = False := (n_le (by omega) (by omega)).trans (eq_false (by omega))
      have c2 : (Int32.ofNat l.length ≤ Int32.ofNat k) = True := (n_le (by omega) (by omega)).trans (eq_true (by omega))
      simp (config := {maxSteps := 10000000}) (disch := (refine id ?_; first | exact Nat.ne_of_beq_eq_false rfl | exact Nat.le_of_ble_eq_true rfl | with_unfolding_all exact rfl | with_unfolding_all exact Nat.le_of_ble_eq_true rfl | (simp only [am_cat_nil, am_cat_int, am_cat_ref, am_cat_null, am_cat_long, Nat.reduceAdd, Nat.reduceLeDiff]; done) | assumption | decide | fail)) only [z24_7, z24_8, z24_11, z24_13, z24_13N, z24_14, z24_17, z24_20, z24_21, z24_23, z24_24, z24_24N, z24_25, z24_27, z24_30, z24_33, z24_34, z24_35, z24_38, z24_41, z24_42, c1, c2, L, wm_eq, wm_ne, wm_b, wo_eq, wo_ne, wb_r, ws_eq, ws_ne, ws_b, lw1, lw2, lr1, lr2, ln2, up_eq, up_ne, up_up, fst_l, snd_l, am_al, am_nl, i_eqll, i_10, i_00, Nat.reduceMul, Nat.reduceAdd, Nat.reduceDiv, Nat.reduceMod, Int32.reduceOfNat, Int32.reduceAdd, Int32.reduceSub, Int32.reduceMul, Int32.reduceLT, Int32.reduceLE, Int32.reduceToNatClampNeg, Nat.reduceEqDiff, Nat.reduceLeDiff, Nat.reduceLT, ↓reduceIte, not_true_eq_false, not_false_eq_true, ↓am_kc_f, am_kc_s, am_then_some, am_tl1, am_tl0, List.nil_append, ad2]
      rfl
  | succ m ih =>
    intro k x hm hk
    by_cases c : k < e ∧ k < l.length
    · have c1 : (Int32.ofNat e ≤ Int32.ofNat k) = False := (n_le (by omega) (by omega)).trans (eq_false (by omega))
      have c2 : (Int32.ofNat l.length ≤ Int32.ofNat k) = False := (n_le (by omega) (by omega)).trans (eq_false (by omega))
      have A := str_at (d := d) S c.2
      have C := tx_code (d := d + 2) (h := h) (l8 k c.2) (hl k c.2)
      have k1 : Int32.ofNat k + 1 = Int32.ofNat (k + 1) := n_add (y := 1)
      have I := ih (k + 1) (x <<< 6 ||| cd (l.getD k 0)) (by omega) (by omega)
      have en : wF x ((l.drop k).take (e - k)) = wF (x <<< 6 ||| cd (l.getD k 0)) ((l.drop (k + 1)).take (e - (k + 1))) := by
        have e1 : l.drop k = l.getD k 0 :: l.drop (k + 1) := by
          rw [List.drop_eq_getElem_cons c.2]
          congr 1
          rw [List.getD_eq_getElem?_getD, List.getElem?_eq_getElem c.2]
          rfl
        obtain ⟨z, hz⟩ : ∃ z, e - k = z + 1 := ⟨e - k - 1, by omega⟩
        rw [e1, hz, show e - (k + 1) = z by omega]
        rfl
      rw [en, z24_5]
      simp (config := {maxSteps := 10000000}) (disch := (refine id ?_; first | exact Nat.ne_of_beq_eq_false rfl | exact Nat.le_of_ble_eq_true rfl | with_unfolding_all exact rfl | with_unfolding_all exact Nat.le_of_ble_eq_true rfl | (simp only [am_cat_nil, am_cat_int, am_cat_ref, am_cat_null, am_cat_long, Nat.reduceAdd, Nat.reduceLeDiff]; done) | assumption | decide | fail)) only [z24_7, z24_8, z24_11, z24_13, z24_13N, z24_14, z24_17, z24_20, z24_21, z24_23, z24_24, z24_24N, z24_25, z24_27, z24_30, z24_33, z24_34, z24_35, z24_38, z24_41, z24_42, c1, c2, L, A, C, k1, I, sh_6, wm_eq, wm_ne, wm_b, wo_eq, wo_ne, wb_r, ws_eq, ws_ne, ws_b, lw1, lw2, lr1, lr2, ln2, up_eq, up_ne, up_up, fst_l, snd_l, am_al, am_nl, i_eqll, i_10, i_00, Nat.reduceMul, Nat.reduceAdd, Nat.reduceDiv, Nat.reduceMod, Int32.reduceOfNat, Int32.reduceAdd, Int32.reduceSub, Int32.reduceMul, Int32.reduceLT, Int32.reduceLE, Int32.reduceToNatClampNeg, Nat.reduceEqDiff, Nat.reduceLeDiff, Nat.reduceLT, ↓reduceIte, not_true_eq_false, not_false_eq_true, ↓am_kc_f, am_kc_s, am_then_some, am_tl1, am_tl0, List.nil_append, ad2]
    · by_cases c' : e ≤ k
      · have c1 : (Int32.ofNat e ≤ Int32.ofNat k) = True := (n_le (by omega) (by omega)).trans (eq_true (by omega))
        have en : (l.drop k).take (e - k) = [] := by rw [show e - k = 0 by omega]; rfl
        rw [en, z24_5]
        simp (config := {maxSteps := 10000000}) (disch := (refine id ?_; first | exact Nat.ne_of_beq_eq_false rfl | exact Nat.le_of_ble_eq_true rfl | with_unfolding_all exact rfl | with_unfolding_all exact Nat.le_of_ble_eq_true rfl | (simp only [am_cat_nil, am_cat_int, am_cat_ref, am_cat_null, am_cat_long, Nat.reduceAdd, Nat.reduceLeDiff]; done) | assumption | decide | fail)) only [z24_7, z24_8, z24_11, z24_13, z24_13N, z24_14, z24_17, z24_20, z24_21, z24_23, z24_24, z24_24N, z24_25, z24_27, z24_30, z24_33, z24_34, z24_35, z24_38, z24_41, z24_42, c1, L, wm_eq, wm_ne, wm_b, wo_eq, wo_ne, wb_r, ws_eq, ws_ne, ws_b, lw1, lw2, lr1, lr2, ln2, up_eq, up_ne, up_up, fst_l, snd_l, am_al, am_nl, i_eqll, i_10, i_00, Nat.reduceMul, Nat.reduceAdd, Nat.reduceDiv, Nat.reduceMod, Int32.reduceOfNat, Int32.reduceAdd, Int32.reduceSub, Int32.reduceMul, Int32.reduceLT, Int32.reduceLE, Int32.reduceToNatClampNeg, Nat.reduceEqDiff, Nat.reduceLeDiff, Nat.reduceLT, ↓reduceIte, not_true_eq_false, not_false_eq_true, ↓am_kc_f, am_kc_s, am_then_some, am_tl1, am_tl0, List.nil_append, ad2]
        rfl
      · have c1 : (Int32.ofNat e ≤ Int32.ofNat k) = False := (n_le (by omega) (by omega)).trans (eq_false (by omega))
        have c2 : (Int32.ofNat l.length ≤ Int32.ofNat k) = True := (n_le (by omega) (by omega)).trans (eq_true (by omega))
        have en : (l.drop k).take (e - k) = [] := by rw [List.drop_eq_nil_of_le (by omega)]; exact List.take_nil
        rw [en, z24_5]
        simp (config := {maxSteps := 10000000}) (disch := (refine id ?_; first | exact Nat.ne_of_beq_eq_false rfl | exact Nat.le_of_ble_eq_true rfl | with_unfolding_all exact rfl | with_unfolding_all exact Nat.le_of_ble_eq_true rfl | (simp only [am_cat_nil, am_cat_int, am_cat_ref, am_cat_null, am_cat_long, Nat.reduceAdd, Nat.reduceLeDiff]; done) | assumption | decide | fail)) only [z24_7, z24_8, z24_11, z24_13, z24_13N, z24_14, z24_17, z24_20, z24_21, z24_23, z24_24, z24_24N, z24_25, z24_27, z24_30, z24_33, z24_34, z24_35, z24_38, z24_41, z24_42, c1, c2, L, wm_eq, wm_ne, wm_b, wo_eq, wo_ne, wb_r, ws_eq, ws_ne, ws_b, lw1, lw2, lr1, lr2, ln2, up_eq, up_ne, up_up, fst_l, snd_l, am_al, am_nl, i_eqll, i_10, i_00, Nat.reduceMul, Nat.reduceAdd, Nat.reduceDiv, Nat.reduceMod, Int32.reduceOfNat, Int32.reduceAdd, Int32.reduceSub, Int32.reduceMul, Int32.reduceLT, Int32.reduceLE, Int32.reduceToNatClampNeg, Nat.reduceEqDiff, Nat.reduceLeDiff, Nat.reduceLT, ↓reduceIte, not_true_eq_false, not_false_eq_true, ↓am_kc_f, am_kc_s, am_then_some, am_tl1, am_tl0, List.nil_append, ad2]
        rfl
theorem half_ok {h : am_H} {a i e : Nat} {l : List Nat} (S : STR h a l) (hl : ∀ j, j < l.length → cLet (l.getD j 0) ∨ cDig (l.getD j 0)) (hi : i < 100) (he : e < 100) {d : Nat} : am_M (d + 5) 24 [.ref a, .int (Int32.ofNat i), .int (Int32.ofNat e)] h = some (some (.long (wF 0 ((l.drop i).take (e - i)))), h) := by
  have L := half_loop S hl he (d := d) (l1 := some (.int (Int32.ofNat i))) (e - i) i 0 (Or.inl rfl) hi
  rw [e24 rfl]
  simp (config := {maxSteps := 10000000}) (disch := (refine id ?_; first | exact Nat.ne_of_beq_eq_false rfl | exact Nat.le_of_ble_eq_true rfl | with_unfolding_all exact rfl | with_unfolding_all exact Nat.le_of_ble_eq_true rfl | (simp only [am_cat_nil, am_cat_int, am_cat_ref, am_cat_null, am_cat_long, Nat.reduceAdd, Nat.reduceLeDiff]; done) | assumption | decide | fail)) only [z24_0, z24_1, z24_2, z24_3, L, wm_eq, wm_ne, wm_b, wo_eq, wo_ne, wb_r, ws_eq, ws_ne, ws_b, lw1, lw2, lr1, lr2, ln2, up_eq, up_ne, up_up, fst_l, snd_l, am_al, am_nl, i_eqll, i_10, i_00, Nat.reduceMul, Nat.reduceAdd, Nat.reduceDiv, Nat.reduceMod, Int32.reduceOfNat, Int32.reduceAdd, Int32.reduceSub, Int32.reduceMul, Int32.reduceLT, Int32.reduceLE, Int32.reduceToNatClampNeg, Nat.reduceEqDiff, Nat.reduceLeDiff, Nat.reduceLT, ↓reduceIte, not_true_eq_false, not_false_eq_true, ↓am_kc_f, am_kc_s, am_then_some, am_tl1, am_tl0, List.nil_append, ad2]
theorem half_A {h : am_H} {a : Nat} {l : List Nat} (S : STR h a l) (hl : ∀ j, j < l.length → cLet (l.getD j 0) ∨ cDig (l.getD j 0)) {d : Nat} : am_M (d + 5) 24 [.ref a, .int 0, .int 10] h = some (some (.long (wF 0 (l.take 10))), h) := half_ok (i := 0) (e := 10) S hl (by decide) (by decide)
theorem half_B {h : am_H} {a : Nat} {l : List Nat} (S : STR h a l) (hl : ∀ j, j < l.length → cLet (l.getD j 0) ∨ cDig (l.getD j 0)) {d : Nat} : am_M (d + 5) 24 [.ref a, .int 10, .int 16] h = some (some (.long (wF 0 ((l.drop 10).take 6))), h) := half_ok (i := 10) (e := 16) S hl (by decide) (by decide)
