/-! the heap at the call of isRight (printed by gen/comp6.py) -/
set_option maxRecDepth 100000
set_option maxHeartbeats 4000000
theorem sg128 {c : Nat} : ∀ (m k : Nat), sgF m k c ≠ -1 → c < 128 := by
  have b : ∀ j, SGL.getD j 0 < 128 := fun j => by
    by_cases h : j < 20
    · revert j
      decide
    · rw [List.getD_eq_getElem?_getD, List.getElem?_eq_none (Nat.le_of_not_lt h)]
      decide
  intro m
  induction m with
  | zero => intro k h; exact absurd rfl h
  | succ m ih =>
    intro k h
    by_cases e : SGL.getD k 0 = c
    · rw [← e]; exact b k
    · have e2 : sgF (m + 1) k c = sgF m (k + 1) c := if_neg e
      rw [e2] at h
      exact ih _ h
theorem lx128 {w : List Nat} {e : Nat} {kd : Int32} {a : Int64} (h : LXK w e kd a) : ∀ x, x ∈ w → x < 128 := by
  intro x hx
  have get : ∀ (P : Nat → Prop), (∀ j, j < w.length → P (w.getD j 0)) → P x := fun P hP => by
    obtain ⟨j, hj, rfl⟩ := List.getElem_of_mem hx
    have := hP j hj
    rw [List.getD_eq_getElem?_getD, List.getElem?_eq_getElem hj] at this
    exact this
  rcases h with ⟨-, -, -, h, -⟩ | ⟨-, h, -⟩ | ⟨c, rfl, -, -, -, -, -, -, -, -, -, -, -, -, -, -, h1, h2, -⟩ | ⟨rfl, -⟩ | ⟨rfl, -⟩
  · have := get (fun c => cLet c ∨ cDig c) h
    have t : cLet x ∨ cDig x := this
    unfold cLet cDig at t
    omega
  · have t : cDig x := get (fun c => cDig c) h
    unfold cDig at t
    omega
  · rw [List.mem_singleton.mp hx]
    exact sg128 _ _ (h1 ▸ h2)
  · have : x = 58 ∨ x = 61 := by simpa using hx
    omega
  · have : x = 46 := by simpa using hx
    omega
theorem tx128 : ∀ (L : List LI), okL L → ∀ x, x ∈ txL L → x < 128 := by
  intro L
  induction L with
  | nil => intro _ x hx; exact absurd hx List.not_mem_nil
  | cons c r ih =>
    obtain ⟨b, w, kd, a⟩ := c
    intro h x hx
    have hx : x ∈ List.replicate b 32 ++ (w ++ txL r) := hx
    rcases List.mem_append.mp hx with h1 | h1
    · rw [(List.mem_replicate.mp h1).2]; decide
    · rcases List.mem_append.mp h1 with h2 | h2
      · exact lx128 h.1 x h2
      · exact ih h.2 x h2
theorem cl_id : ∀ (t : List Nat), (∀ x, x ∈ t → x < 128) → cl t = t := by
  intro t
  induction t with
  | nil => intro _; rfl
  | cons b t ih =>
    intro h
    show b % 128 :: cl t = b :: t
    rw [Nat.mod_eq_of_lt (h b List.mem_cons_self), ih (fun x hx => h x (List.mem_cons_of_mem _ hx))]
theorem lawT_tx {sx : Nat → Int32} {n : Nat} : lawT sx n = txL (allL (cmL sx n)) := by
  have e1 : hdT = txL hdL ++ [32] := by decide
  have e2 : txL tlL = [32, 69, 78, 68, 32, 65, 46] := by decide
  unfold lawT allL
  rw [txL_app, bump_tx row_ne, txL_app, e1, e2]
  simp only [List.append_assoc, List.cons_append, List.nil_append]
theorem lawT_cl {sx : Nat → Int32} {n : Nat} : cl (lawT sx n) = lawT sx n := cl_id _ (by rw [lawT_tx]; exact tx128 _ (all_ok cmL_ok))
theorem lawT_lxs {sx : Nat → Int32} {n : Nat} : LXS (TF (lawT sx n)) (lawT sx n).length 0 (allL (cmL sx n)) := by
  have := LXS_ok (allL (cmL sx n)) [] (all_ok cmL_ok)
  rw [List.nil_append, ← lawT_tx] at this
  exact this
theorem lawT_128 {sx : Nat → Int32} {n k : Nat} : (lawT sx n).getD k 0 < 128 := by
  rw [← lawT_cl]; exact cl_getD
theorem pad_get {t : List Nat} (h : cl t = t) {k : Nat} : (padT t).getD k 0 = t.getD k 0 := by unfold padT; rw [gz, h]
theorem pad_len {t : List Nat} (h : t.length < 1980) : t.length ≤ (padT t).length ∧ (padT t).length < 2001 := by
  unfold padT
  rw [List.length_append, cl_len, List.length_replicate]
  omega
def A0F (C : Nat → Nat → Value) (t : List Nat) (two pl il : Nat → Int64) : Nat → Nat → Value := (HW (gL (hp (LC C) C) pl il) 0 0 (padT t).length (bF (TF (padT t))) (up (qF t) 0 0) two).2.2
def A1F (C : Nat → Nat → Value) (t : List Nat) (two pl il : Nat → Int64) : Nat → Nat → Value := ws (ws (A0F C t two pl il) 4798283777 1 (.int 0)) 4798283777 9 (.int 1)
def A2F (C : Nat → Nat → Value) (t : List Nat) (two pl il : Nat → Int64) (tk tp : Nat → Int32) (tf ts : Nat → Int64) (m : Nat) : Nat → Nat → Value := (HT (A1F C t two pl il) 0 0 (bF (TF t)) t.length tk tp tf ts m).2.2
def A3F (C : Nat → Nat → Value) (t : List Nat) (two pl il : Nat → Int64) (tk tp : Nat → Int32) (tf ts : Nat → Int64) (m : Nat) (n : Nat) : Nat → Nat → Value := (HF (A2F C t two pl il tk tp tf ts m) 0 0 tk n 1).2.2
def A5F (C : Nat → Nat → Value) (t : List Nat) (two pl il : Nat → Int64) (tk tp : Nat → Int32) (tf ts : Nat → Int64) (m : Nat) (n : Nat) : Nat → Nat → Value := (ws (ws (ws (ws (ws (A3F C t two pl il tk tp tf ts m n) 124470165508 2 (.int 2)) 124470165508 4 (.long 37)) 124470165508 5 (.long 0)) 124470165508 6 (.int 0)) 4798283777 12 (.int 1))
def TCH (a : Nat) : Bool := Nat.beq a 4798283777 || (Nat.beq a 4815189033 || (Nat.beq a 124772155947 || (Nat.beq a 124805713963 || (Nat.beq a 124822491179 || (Nat.beq a 124839264427 || (Nat.beq a 124537274373 || (Nat.beq a 4831838210 || (Nat.beq a 124554179625 || (Nat.beq a 124570956906 || (Nat.beq a 124587734122 || (Nat.beq a 124604511339 || (Nat.beq a 124621288555 || (Nat.beq a 6912212998 || (Nat.beq a 124470165508))))))))))))))
theorem TCH_n {a : Nat} (h : TCH a = false) : a ≠ 4798283777 ∧ a ≠ 4815189033 ∧ a ≠ 124772155947 ∧ a ≠ 124805713963 ∧ a ≠ 124822491179 ∧ a ≠ 124839264427 ∧ a ≠ 124537274373 ∧ a ≠ 4831838210 ∧ a ≠ 124554179625 ∧ a ≠ 124570956906 ∧ a ≠ 124587734122 ∧ a ≠ 124604511339 ∧ a ≠ 124621288555 ∧ a ≠ 6912212998 ∧ a ≠ 124470165508 := by
  unfold TCH at h
  simp only [Bool.or_eq_false_iff] at h
  obtain ⟨n0, n1, n2, n3, n4, n5, n6, n7, n8, n9, n10, n11, n12, n13, n14⟩ := h
  exact ⟨Nat.ne_of_beq_eq_false n0, Nat.ne_of_beq_eq_false n1, Nat.ne_of_beq_eq_false n2, Nat.ne_of_beq_eq_false n3, Nat.ne_of_beq_eq_false n4, Nat.ne_of_beq_eq_false n5, Nat.ne_of_beq_eq_false n6, Nat.ne_of_beq_eq_false n7, Nat.ne_of_beq_eq_false n8, Nat.ne_of_beq_eq_false n9, Nat.ne_of_beq_eq_false n10, Nat.ne_of_beq_eq_false n11, Nat.ne_of_beq_eq_false n12, Nat.ne_of_beq_eq_false n13, Nat.ne_of_beq_eq_false n14⟩
theorem A0_ne {C : Nat → Nat → Value} {t : List Nat} {two pl il : Nat → Int64} {a k : Nat} (n0 : a ≠ 4798283777) (n1 : a ≠ 4815189033) (n2 : a ≠ 124772155947) (n3 : a ≠ 124805713963) (n4 : a ≠ 124822491179) (n5 : a ≠ 124839264427) : A0F C t two pl il a k = hp (LC C) C a k := by
  have e0 := eq_false n0
  have e1 := eq_false n1
  have e2 := eq_false n2
  have e3 := eq_false n3
  have e4 := eq_false n4
  have e5 := eq_false n5
  unfold A0F HW gL
  simp only [e0, e1, e2, e3, e4, e5, ↓reduceIte]
theorem A1_ne {C : Nat → Nat → Value} {t : List Nat} {two pl il : Nat → Int64} {a k : Nat} (n0 : a ≠ 4798283777) (n1 : a ≠ 4815189033) (n2 : a ≠ 124772155947) (n3 : a ≠ 124805713963) (n4 : a ≠ 124822491179) (n5 : a ≠ 124839264427) : A1F C t two pl il a k = hp (LC C) C a k := by
  unfold A1F
  rw [ws_ra n0, ws_ra n0]
  exact A0_ne n0 n1 n2 n3 n4 n5
theorem A5_ne {C : Nat → Nat → Value} {t : List Nat} {two pl il : Nat → Int64} {tk tp : Nat → Int32} {tf ts : Nat → Int64} {m n : Nat} {a k : Nat} (n0 : a ≠ 4798283777) (n1 : a ≠ 4815189033) (n2 : a ≠ 124772155947) (n3 : a ≠ 124805713963) (n4 : a ≠ 124822491179) (n5 : a ≠ 124839264427) (n6 : a ≠ 124537274373) (n7 : a ≠ 4831838210) (n8 : a ≠ 124554179625) (n9 : a ≠ 124570956906) (n10 : a ≠ 124587734122) (n11 : a ≠ 124604511339) (n12 : a ≠ 124621288555) (n13 : a ≠ 6912212998) (n14 : a ≠ 124470165508) : A5F C t two pl il tk tp tf ts m n a k = hp (LC C) C a k := by
  have e0 := eq_false n0
  have e1 := eq_false n1
  have e2 := eq_false n2
  have e3 := eq_false n3
  have e4 := eq_false n4
  have e5 := eq_false n5
  have e6 := eq_false n6
  have e7 := eq_false n7
  have e8 := eq_false n8
  have e9 := eq_false n9
  have e10 := eq_false n10
  have e11 := eq_false n11
  have e12 := eq_false n12
  have e13 := eq_false n13
  have e14 := eq_false n14
  unfold A5F
  rw [ws_ra n0, ws_ra n14, ws_ra n14, ws_ra n14, ws_ra n14]
  unfold A3F HF A2F HT
  simp only [e6, e7, e8, e9, e10, e11, e12, e13, ↓reduceIte]
  exact A1_ne n0 n1 n2 n3 n4 n5
theorem A5_pass {C : Nat → Nat → Value} {t : List Nat} {two pl il : Nat → Int64} {tk tp : Nat → Int32} {tf ts : Nat → Int64} {m n : Nat} {a k : Nat} (h : TCH a = false) : A5F C t two pl il tk tp tf ts m n a k = hp (LC C) C a k := by
  obtain ⟨n0, n1, n2, n3, n4, n5, n6, n7, n8, n9, n10, n11, n12, n13, n14⟩ := TCH_n h
  exact A5_ne n0 n1 n2 n3 n4 n5 n6 n7 n8 n9 n10 n11 n12 n13 n14
theorem wm_f {W : Nat → Nat → Value} {a b : Nat} {f : (Nat → Value) → Nat → Value} (h : b ≠ a) : wm W a f b = W b := if_neg h
theorem LC_c {C : Nat → Nat → Value} {a k : Nat} (h : a < 7281311744) (h2 : a ≠ 4798283777) : hp (LC C) C a k = C a k := by
  have l : a < 124872818688 := by omega
  show (if a < 124872818688 then LC C a else C a) k = C a k
  rw [if_pos l]
  unfold LC LB
  simp (disch := (refine id ?_; first | assumption | omega)) only [wo_f, wm_f]
def LOWT (a : Nat) : Bool := !TCH a && (Nat.blt a 7281311744 && !(Nat.beq a 7264534539))
theorem A5_low {W : Nat → Nat → Value} {C : Nat → Nat → Value} {t : List Nat} {two pl il : Nat → Int64} {tk tp : Nat → Int32} {tf ts : Nat → Int64} {m n : Nat} {a k : Nat} (c : CF W C) (h : LOWT a = true) : A5F C t two pl il tk tp tf ts m n a k = hp (LA (L0 W)) W a k := by
  unfold LOWT at h
  simp only [Bool.and_eq_true, Bool.not_eq_true'] at h
  obtain ⟨h1, h2, h3⟩ := h
  have h4 : a < 7281311744 := Nat.lt_of_lt_of_eq (Nat.le_of_ble_eq_true h2) rfl
  rw [A5_pass h1, LC_c h4 (TCH_n h1).1]
  exact c.1 a k (by unfold am_i; omega) (Nat.ne_of_beq_eq_false h3)
theorem A1_low {W : Nat → Nat → Value} {C : Nat → Nat → Value} {t : List Nat} {two pl il : Nat → Int64} {a k : Nat} (c : CF W C) (h : LOWT a = true) : A1F C t two pl il a k = hp (LA (L0 W)) W a k := by
  unfold LOWT at h
  simp only [Bool.and_eq_true, Bool.not_eq_true'] at h
  obtain ⟨h1, h2, h3⟩ := h
  have h4 : a < 7281311744 := Nat.lt_of_lt_of_eq (Nat.le_of_ble_eq_true h2) rfl
  obtain ⟨n0, n1, n2, n3, n4, n5, n6, n7, n8, n9, n10, n11, n12, n13, n14⟩ := TCH_n h1
  rw [A1_ne n0 n1 n2 n3 n4 n5, LC_c h4 n0]
  exact c.1 a k (by unfold am_i; omega) (Nat.ne_of_beq_eq_false h3)
theorem A1_286 {W : Nat → Nat → Value} {C : Nat → Nat → Value} {t : List Nat} {two pl il : Nat → Int64} {a k : Nat} (c : CF W C) (h : am_i a < 286) : A1F C t two pl il a k = W a k := by
  have h1 := am_i_lt h
  rw [A1_ne (by omega) (by omega) (by omega) (by omega) (by omega) (by omega)]
  exact LCx_low (CF_low c) h
theorem A5_286 {W : Nat → Nat → Value} {C : Nat → Nat → Value} {t : List Nat} {two pl il : Nat → Int64} {tk tp : Nat → Int32} {tf ts : Nat → Int64} {m n : Nat} {a k : Nat} (c : CF W C) (h : am_i a < 286) : A5F C t two pl il tk tp tf ts m n a k = W a k := by
  have h1 := am_i_lt h
  rw [A5_ne (by omega) (by omega) (by omega) (by omega) (by omega) (by omega) (by omega) (by omega) (by omega) (by omega) (by omega) (by omega) (by omega) (by omega) (by omega)]
  exact LCx_low (CF_low c) h
theorem GS_of {W V : Nat → Nat → Value} (G : GS W) (h : ∀ a k, am_i a < 286 → V a k = W a k) : GS V := fun j hj => str_low (G j hj) (Nat.le_refl _) (fun x k hx => h x k hx)
theorem A1_WRD {W : Nat → Nat → Value} {C : Nat → Nat → Value} {t : List Nat} {two pl il : Nat → Int64} (G : GS W) (c : CF W C) : WRD (A1F C t two pl il) := fun w hw => by
  match w, hw with
  | 0, _ => exact ⟨67108883, (A1_low c rfl).trans rfl, str_low (l := [65, 78, 68]) (G 0 (by decide)) (Nat.le_refl _) (fun x k hx => A1_286 c hx)⟩
  | 1, _ => exact ⟨100663315, (A1_low c rfl).trans rfl, str_low (l := [65, 82, 82, 65, 89]) (G 1 (by decide)) (Nat.le_refl _) (fun x k hx => A1_286 c hx)⟩
  | 2, _ => exact ⟨134217747, (A1_low c rfl).trans rfl, str_low (l := [66, 69, 71, 73, 78]) (G 2 (by decide)) (Nat.le_refl _) (fun x k hx => A1_286 c hx)⟩
  | 3, _ => exact ⟨167772179, (A1_low c rfl).trans rfl, str_low (l := [66, 89]) (G 3 (by decide)) (Nat.le_refl _) (fun x k hx => A1_286 c hx)⟩
  | 4, _ => exact ⟨201326611, (A1_low c rfl).trans rfl, str_low (l := [67, 65, 83, 69]) (G 4 (by decide)) (Nat.le_refl _) (fun x k hx => A1_286 c hx)⟩
  | 5, _ => exact ⟨234881043, (A1_low c rfl).trans rfl, str_low (l := [67, 79, 78, 83, 84]) (G 5 (by decide)) (Nat.le_refl _) (fun x k hx => A1_286 c hx)⟩
  | 6, _ => exact ⟨268435475, (A1_low c rfl).trans rfl, str_low (l := [68, 69, 70, 73, 78, 73, 84, 73, 79, 78]) (G 6 (by decide)) (Nat.le_refl _) (fun x k hx => A1_286 c hx)⟩
  | 7, _ => exact ⟨301989907, (A1_low c rfl).trans rfl, str_low (l := [68, 73, 86]) (G 7 (by decide)) (Nat.le_refl _) (fun x k hx => A1_286 c hx)⟩
  | 8, _ => exact ⟨335544339, (A1_low c rfl).trans rfl, str_low (l := [68, 79]) (G 8 (by decide)) (Nat.le_refl _) (fun x k hx => A1_286 c hx)⟩
  | 9, _ => exact ⟨369098771, (A1_low c rfl).trans rfl, str_low (l := [69, 76, 83, 69]) (G 9 (by decide)) (Nat.le_refl _) (fun x k hx => A1_286 c hx)⟩
  | 10, _ => exact ⟨402653203, (A1_low c rfl).trans rfl, str_low (l := [69, 76, 83, 73, 70]) (G 10 (by decide)) (Nat.le_refl _) (fun x k hx => A1_286 c hx)⟩
  | 11, _ => exact ⟨436207635, (A1_low c rfl).trans rfl, str_low (l := [69, 78, 68]) (G 11 (by decide)) (Nat.le_refl _) (fun x k hx => A1_286 c hx)⟩
  | 12, _ => exact ⟨469762067, (A1_low c rfl).trans rfl, str_low (l := [69, 88, 73, 84]) (G 12 (by decide)) (Nat.le_refl _) (fun x k hx => A1_286 c hx)⟩
  | 13, _ => exact ⟨503316499, (A1_low c rfl).trans rfl, str_low (l := [69, 88, 80, 79, 82, 84]) (G 13 (by decide)) (Nat.le_refl _) (fun x k hx => A1_286 c hx)⟩
  | 14, _ => exact ⟨536870931, (A1_low c rfl).trans rfl, str_low (l := [70, 79, 82]) (G 14 (by decide)) (Nat.le_refl _) (fun x k hx => A1_286 c hx)⟩
  | 15, _ => exact ⟨570425363, (A1_low c rfl).trans rfl, str_low (l := [70, 79, 82, 87, 65, 82, 68]) (G 15 (by decide)) (Nat.le_refl _) (fun x k hx => A1_286 c hx)⟩
  | 16, _ => exact ⟨603979795, (A1_low c rfl).trans rfl, str_low (l := [70, 82, 79, 77]) (G 16 (by decide)) (Nat.le_refl _) (fun x k hx => A1_286 c hx)⟩
  | 17, _ => exact ⟨637534227, (A1_low c rfl).trans rfl, str_low (l := [73, 70]) (G 17 (by decide)) (Nat.le_refl _) (fun x k hx => A1_286 c hx)⟩
  | 18, _ => exact ⟨671088659, (A1_low c rfl).trans rfl, str_low (l := [73, 77, 80, 76, 69, 77, 69, 78, 84, 65, 84, 73, 79, 78]) (G 18 (by decide)) (Nat.le_refl _) (fun x k hx => A1_286 c hx)⟩
  | 19, _ => exact ⟨704643091, (A1_low c rfl).trans rfl, str_low (l := [73, 77, 80, 79, 82, 84]) (G 19 (by decide)) (Nat.le_refl _) (fun x k hx => A1_286 c hx)⟩
  | 20, _ => exact ⟨738197523, (A1_low c rfl).trans rfl, str_low (l := [73, 78]) (G 20 (by decide)) (Nat.le_refl _) (fun x k hx => A1_286 c hx)⟩
  | 21, _ => exact ⟨771751955, (A1_low c rfl).trans rfl, str_low (l := [76, 79, 79, 80]) (G 21 (by decide)) (Nat.le_refl _) (fun x k hx => A1_286 c hx)⟩
  | 22, _ => exact ⟨805306387, (A1_low c rfl).trans rfl, str_low (l := [77, 79, 68]) (G 22 (by decide)) (Nat.le_refl _) (fun x k hx => A1_286 c hx)⟩
  | 23, _ => exact ⟨838860819, (A1_low c rfl).trans rfl, str_low (l := [77, 79, 68, 85, 76, 69]) (G 23 (by decide)) (Nat.le_refl _) (fun x k hx => A1_286 c hx)⟩
  | 24, _ => exact ⟨872415251, (A1_low c rfl).trans rfl, str_low (l := [78, 79, 84]) (G 24 (by decide)) (Nat.le_refl _) (fun x k hx => A1_286 c hx)⟩
  | 25, _ => exact ⟨905969683, (A1_low c rfl).trans rfl, str_low (l := [79, 70]) (G 25 (by decide)) (Nat.le_refl _) (fun x k hx => A1_286 c hx)⟩
  | 26, _ => exact ⟨939524115, (A1_low c rfl).trans rfl, str_low (l := [79, 82]) (G 26 (by decide)) (Nat.le_refl _) (fun x k hx => A1_286 c hx)⟩
  | 27, _ => exact ⟨973078547, (A1_low c rfl).trans rfl, str_low (l := [80, 79, 73, 78, 84, 69, 82]) (G 27 (by decide)) (Nat.le_refl _) (fun x k hx => A1_286 c hx)⟩
  | 28, _ => exact ⟨1006632979, (A1_low c rfl).trans rfl, str_low (l := [80, 82, 79, 67, 69, 68, 85, 82, 69]) (G 28 (by decide)) (Nat.le_refl _) (fun x k hx => A1_286 c hx)⟩
  | 29, _ => exact ⟨1040187411, (A1_low c rfl).trans rfl, str_low (l := [81, 85, 65, 76, 73, 70, 73, 69, 68]) (G 29 (by decide)) (Nat.le_refl _) (fun x k hx => A1_286 c hx)⟩
  | 30, _ => exact ⟨1073741843, (A1_low c rfl).trans rfl, str_low (l := [82, 69, 67, 79, 82, 68]) (G 30 (by decide)) (Nat.le_refl _) (fun x k hx => A1_286 c hx)⟩
  | 31, _ => exact ⟨1107296275, (A1_low c rfl).trans rfl, str_low (l := [82, 69, 80, 69, 65, 84]) (G 31 (by decide)) (Nat.le_refl _) (fun x k hx => A1_286 c hx)⟩
  | 32, _ => exact ⟨1140850707, (A1_low c rfl).trans rfl, str_low (l := [82, 69, 84, 85, 82, 78]) (G 32 (by decide)) (Nat.le_refl _) (fun x k hx => A1_286 c hx)⟩
  | 33, _ => exact ⟨1174405139, (A1_low c rfl).trans rfl, str_low (l := [83, 69, 84]) (G 33 (by decide)) (Nat.le_refl _) (fun x k hx => A1_286 c hx)⟩
  | 34, _ => exact ⟨1207959571, (A1_low c rfl).trans rfl, str_low (l := [84, 72, 69, 78]) (G 34 (by decide)) (Nat.le_refl _) (fun x k hx => A1_286 c hx)⟩
  | 35, _ => exact ⟨1241514003, (A1_low c rfl).trans rfl, str_low (l := [84, 79]) (G 35 (by decide)) (Nat.le_refl _) (fun x k hx => A1_286 c hx)⟩
  | 36, _ => exact ⟨1275068435, (A1_low c rfl).trans rfl, str_low (l := [84, 89, 80, 69]) (G 36 (by decide)) (Nat.le_refl _) (fun x k hx => A1_286 c hx)⟩
  | 37, _ => exact ⟨1308622867, (A1_low c rfl).trans rfl, str_low (l := [85, 78, 84, 73, 76]) (G 37 (by decide)) (Nat.le_refl _) (fun x k hx => A1_286 c hx)⟩
  | 38, _ => exact ⟨1342177299, (A1_low c rfl).trans rfl, str_low (l := [86, 65, 82]) (G 38 (by decide)) (Nat.le_refl _) (fun x k hx => A1_286 c hx)⟩
  | 39, _ => exact ⟨1375731731, (A1_low c rfl).trans rfl, str_low (l := [87, 72, 73, 76, 69]) (G 39 (by decide)) (Nat.le_refl _) (fun x k hx => A1_286 c hx)⟩
  | 40, _ => exact ⟨1409286163, (A1_low c rfl).trans rfl, str_low (l := [87, 73, 84, 72]) (G 40 (by decide)) (Nat.le_refl _) (fun x k hx => A1_286 c hx)⟩
  | w + 41, h => exact absurd h (by omega)
theorem A1_SGN {W : Nat → Nat → Value} {C : Nat → Nat → Value} {t : List Nat} {two pl il : Nat → Int64} (G : GS W) (c : CF W C) : SGN (A1F C t two pl il) := str_low (l := SGL) (G 41 (by decide)) (Nat.le_refl _) (fun x k hx => A1_286 c hx)
