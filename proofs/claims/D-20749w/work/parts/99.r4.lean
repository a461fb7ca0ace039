/-! the memory at the start (printed by gen/mem.py) -/
set_option maxRecDepth 100000
set_option maxHeartbeats 4000000
def BYT (l : List Nat) : Prop := ∀ x, x ∈ l → x < 256
theorem BYT_nil : BYT [] := fun _ h => absurd h List.not_mem_nil
theorem BYT_cons {b : Nat} {l : List Nat} (h : b < 256) (h2 : BYT l) : BYT (b :: l) := fun x hx => by
  rcases List.mem_cons.mp hx with e | e
  · rw [e]; exact h
  · exact h2 x e
theorem BYT_app {l m : List Nat} (h : BYT l) (h2 : BYT m) : BYT (l ++ m) := fun x hx => by
  rcases List.mem_append.mp hx with e | e
  · exact h x e
  · exact h2 x e
theorem by_stp {pl : Nat} (h : pl < 65536) : BYT (stp pl) := by
  unfold stp lo hi
  repeat (first | exact BYT_nil | refine BYT_cons (by omega) ?_)
theorem by_condL {w u t : Nat} (hw : w < 4) (hu : u < 4) (h : t < 65536) : BYT (condL w u t) := by
  unfold condL vaN lo hi
  repeat (first | exact BYT_nil | refine BYT_cons (by omega) ?_)
theorem by_condG {w u t : Nat} (hw : w < 4) (hu : u < 4) (h : t < 65536) : BYT (condG w u t) := by
  unfold condG vaN lo hi
  repeat (first | exact BYT_nil | refine BYT_cons (by omega) ?_)
theorem by_forA {a w c t : Nat} (ha : a < 4) (hw : w < 4) (hc : c < 65536) (h : t < 65536) : BYT (forA a w c t) := by
  unfold forA vaN lo hi
  repeat (first | exact BYT_nil | refine BYT_cons (by omega) ?_)
theorem by_forB {a t : Nat} (ha : a < 4) (h : t < 65536) : BYT (forB a t) := by
  unfold forB vaN lo hi
  repeat (first | exact BYT_nil | refine BYT_cons (by omega) ?_)
theorem by_st {s : St} (hs : s.ok) : BYT s.code := by
  refine St.all (p := fun s => BYT s.code) ?_ ?_ ?_ ?_ ?_ ?_ ?_ ?_ hs
  · intro a w u ok
    have k : a < 4 ∧ w < 4 ∧ u < 4 := ok
    show BYT [42, lo (vaN w), hi (vaN w), 237, 91, lo (vaN u), hi (vaN u), 183, 237, 90, 234, 64, 0, 34, lo (vaN a), hi (vaN a)]
    unfold vaN lo hi
    repeat (first | exact BYT_nil | refine BYT_cons (by omega) ?_)
  · intro a w c ok
    have k : a < 4 ∧ w < 4 ∧ c < 32768 := ok
    show BYT [42, lo (vaN w), hi (vaN w), 17, lo c, hi c, 183, 237, 82, 234, 64, 0, 34, lo (vaN a), hi (vaN a)]
    unfold vaN lo hi
    repeat (first | exact BYT_nil | refine BYT_cons (by omega) ?_)
  · intro a w u ok
    have k : a < 4 ∧ w < 4 ∧ u < 4 := ok
    show BYT [42, lo (vaN w), hi (vaN w), 237, 91, lo (vaN u), hi (vaN u), 205, 109, 0, 34, lo (vaN a), hi (vaN a)]
    unfold vaN lo hi
    repeat (first | exact BYT_nil | refine BYT_cons (by omega) ?_)
  · intro a w c ok
    have k : a < 4 ∧ w < 4 ∧ 0 < c ∧ c < 32768 := ok
    show BYT [42, lo (vaN w), hi (vaN w), 17, lo c, hi c, 205, 118, 0, 34, lo (vaN a), hi (vaN a)]
    unfold vaN lo hi
    repeat (first | exact BYT_nil | refine BYT_cons (by omega) ?_)
  · intro a w c ok
    have k : a < 4 ∧ w < 4 ∧ 0 < c ∧ c < 32768 := ok
    show BYT [42, lo (vaN w), hi (vaN w), 17, lo c, hi c, 205, 121, 0, 34, lo (vaN a), hi (vaN a)]
    unfold vaN lo hi
    repeat (first | exact BYT_nil | refine BYT_cons (by omega) ?_)
  · intro w u ok
    have k : (0 : Nat) = 0 ∧ w < 4 ∧ u < 4 := ok
    show BYT [42, lo (vaN w), hi (vaN w), 17, 4, 0, 205, 121, 0, 205, 214, 0, 0, 0, 3, 0, 41, 17, 8, 232, 25, 229, 42, lo (vaN u), hi (vaN u), 235, 225, 115, 35, 114]
    unfold vaN lo hi
    repeat (first | exact BYT_nil | refine BYT_cons (by omega) ?_)
  · intro a w ok
    have k : (0 : Nat) = 0 ∧ a < 4 ∧ w < 4 := ok
    show BYT [42, lo (vaN w), hi (vaN w), 205, 214, 0, 0, 0, 3, 0, 41, 17, 8, 232, 25, 94, 35, 86, 235, 34, lo (vaN a), hi (vaN a)]
    unfold vaN lo hi
    repeat (first | exact BYT_nil | refine BYT_cons (by omega) ?_)
  · intro a c ok
    have k : (0 : Nat) = 0 ∧ a < 4 ∧ c < 32768 := ok
    show BYT [33, lo c, hi c, 34, lo (vaN a), hi (vaN a)]
    unfold vaN lo hi
    repeat (first | exact BYT_nil | refine BYT_cons (by omega) ?_)
theorem by_cm {c : Cmd} {h pl pi : Nat} (hc : c.ok) (hh : h + 300 < 65536) (hpl : pl < 65536) (hpi : pi < 65536) : BYT (c.code h pl pi) := by
  have sl : ∀ (s : St), s.code.length ≤ 60 := fun s => Nat.le_trans s.code_le (by decide)
  refine Cmd.all (p := fun c => BYT (c.code h pl pi)) ?_ ?_ ?_ ?_ ?_ ?_ hc
  · intro s ok
    exact BYT_app (by_stp hpl) (by_st ok.2.2.2)
  · intro w u s ok
    have := sl s
    have ok' : (0 : Nat) = 0 ∧ w < 4 ∧ u < 4 ∧ s.ok := ok
    exact BYT_app (by_stp hpl) (BYT_app (by_condL ok'.2.1 ok'.2.2.1 (by omega)) (BYT_app (by_stp hpi) (by_st ok'.2.2.2)))
  · intro a w c s ok
    have := sl s
    have ok' : a < 4 ∧ w < 4 ∧ c < 32768 ∧ s.ok := ok
    refine BYT_app (by_stp hpl) (BYT_app (by_forA ok'.1 ok'.2.1 (by omega) (by omega)) (BYT_app (BYT_app (by_stp hpi) (by_st ok'.2.2.2)) (BYT_app (by_forB ok'.1 (by omega)) (BYT_app (by_stp hpl) ?_))))
    unfold lo hi
    repeat (first | exact BYT_nil | refine BYT_cons (by omega) ?_)
  · intro a c ok
    have ok' : (0 : Nat) = 0 ∧ ((0, 0, 0, 0) : Nat × Nat × Nat × Nat) = (0, 0, 0, 0) ∧ a < 4 ∧ c < 8 := ok
    have k1 := ok'.2.2.1
    have k2 := ok'.2.2.2
    refine BYT_app (by_stp hpl) ?_
    unfold vaN lo hi
    repeat (first | exact BYT_nil | refine BYT_cons (by omega) ?_)
  · intro w u s ok
    have ok' : (0 : Nat) = 0 ∧ w < 4 ∧ u < 4 ∧ s.ok := ok
    exact BYT_app (by_stp hpl) (BYT_app (BYT_app (by_stp hpi) (by_st ok'.2.2.2)) (by_condL ok'.2.1 ok'.2.2.1 (by omega)))
  · intro w u s ok
    have := sl s
    have ok' : (0 : Nat) = 0 ∧ w < 4 ∧ u < 4 ∧ s.ok := ok
    refine BYT_app (by_stp hpl) (BYT_app (by_condG ok'.2.1 ok'.2.2.1 (by omega)) (BYT_app (BYT_app (by_stp hpi) (by_st ok'.2.2.2)) ?_))
    unfold lo hi
    repeat (first | exact BYT_nil | refine BYT_cons (by omega) ?_)
theorem by_row : ∀ (l : List (Cmd × Nat × Nat)) (h : Nat), okR l → h + 150 * l.length + 300 < 65536 → BYT (codeR h l)
  | [], _, _, _ => BYT_nil
  | (c, pl, pi) :: r, h, ok, hl => by
    rw [List.length_cons] at hl
    have k := code_le (h := h) (pl := pl) (pi := pi) (c := c)
    exact BYT_app (by_cm ok.1.1 (by omega) ok.1.2.1 ok.1.2.2) (by_row r _ ok.2 (by omega))
theorem by_CODE {l : List (Cmd × Nat × Nat)} (ok : okR l) (hl : 2055 + 150 * l.length + 300 < 65536) : BYT (CODE l) := by
  unfold CODE
  refine BYT_app ?_ (BYT_app (by_row l _ ok hl) (BYT_app ?_ ?_))
  all_goals repeat (first | exact BYT_nil | refine BYT_cons (by decide) ?_)
theorem lay_hi {l : List Int32} {cd : Nat → Int32} {h i : Nat} (hi : h + l.length ≤ i) : lay cd h l i = cd i := by
  induction l generalizing cd h with
  | nil => rfl
  | cons b l ih =>
    rw [List.length_cons] at hi
    show lay (up cd h b) (h + 1) l i = cd i
    rw [ih (by omega), up_ne (by omega)]
theorem sb_0 : sb (Int32.ofNat 0) = 0 := by decide
theorem cd9_e {sx : Nat → Int32} {n : Nat} : cd9 sx n = lay (cd6 sx n) 2048 (sbs (CODE (csP 90 (cmL sx n)))) := by
  unfold cd9 CODE
  obtain ⟨L, hL⟩ : ∃ L, L = codeR 2055 (csP 90 (cmL sx n)) := ⟨_, rfl⟩
  rw [← hL, sbs_app, sbs_app, sbs_app, ← lay_app, ← lay_app, ← lay_app]
  have e1 : (sbs [205, 139, 0, 200, 0, 64, 0]).length = 7 := rfl
  have e2 : (sbs L).length = L.length := List.length_map _
  have e3 : (sbs [1, 0, 0, 195, 142, 0]).length = 6 := rfl
  rw [e1, e2, e3]
theorem cd6_z {sx : Nat → Int32} {n j : Nat} (h : j < 2048 ∨ 2061 + (codeR 2055 (csP 90 (cmL sx n))).length ≤ j) : cd6 sx n j = 0 := by
  have e1 : (sbs [205, 139, 0, 200, 0, 64, 0]).length = 7 := rfl
  have e2 : (sbs (codeR 2055 (csP 90 (cmL sx n)))).length = (codeR 2055 (csP 90 (cmL sx n))).length := List.length_map _
  have e3 : (sbs [1, 0, 0, 195, 142, 0]).length = 6 := rfl
  unfold cd6
  rcases h with h | h
  · rw [lay_out (by omega), lay_out (by omega), lay_out h]
  · rw [lay_hi (by omega), lay_hi (by omega), lay_hi (by omega)]
/-- the image's bytes -/
def miF (sx : Nat → Int32) (n : Nat) : Nat → Nat := fun j => if j < 2048 then (if j < 217 ∨ (256 ≤ j ∧ j < 1895) then kb j else 0) else if j < 40960 then (CODE (csP 90 (cmL sx n))).getD (j - 2048) 0 else 0
theorem getD_map {l : List Nat} {f : Nat → Int32} {j : Nat} (h : j < l.length) : (l.map f).getD j 0 = f (l.getD j 0) := by
  rw [List.getD_eq_getElem?_getD, List.getD_eq_getElem?_getD, List.getElem?_map, List.getElem?_eq_getElem h]
  rfl
theorem cd9_b {sx : Nat → Int32} {n j : Nat} (h : 2048 ≤ j) : cd9 sx n j = sb (Int32.ofNat ((CODE (csP 90 (cmL sx n))).getD (j - 2048) 0)) := by
  have cl := CODE_len (l := csP 90 (cmL sx n))
  have e2 : (sbs (CODE (csP 90 (cmL sx n)))).length = (CODE (csP 90 (cmL sx n))).length := List.length_map _
  rw [cd9_e]
  by_cases c : j < 2048 + (CODE (csP 90 (cmL sx n))).length
  · obtain ⟨i, ei⟩ : ∃ i, j = 2048 + i := ⟨j - 2048, by omega⟩
    subst ei
    rw [lay_at (by omega), Nat.add_sub_cancel_left]
    exact getD_map (by omega)
  · rw [lay_hi (by omega), cd6_z (Or.inr (by omega)), List.getD_eq_getElem?_getD, List.getElem?_eq_none (by omega)]
    exact sb_0.symm
theorem kbf_z {i : Nat} (h : (217 ≤ i ∧ i < 256) ∨ 1895 ≤ i) : KBF i = 0 := by
  have t1 : (rT KTF true []).length = 153 := by decide +kernel
  have t2 : (rT KTF false NLIT).length = 153 := by decide +kernel
  have t3 : ((rE KTF true []).map sb).length = 1639 := by rw [List.length_map]; exact l_t0
  have t4 : ((rE KTF false NLIT).map sb).length = 1639 := by rw [e_E, List.length_map, List.length_range]
  have z : kb0 i = 0 := by
    unfold kb0
    rw [up_ne (by omega), up_ne (by omega), up_ne (by omega)]
  unfold KBF
  rcases h with h | h
  · rw [lay_out (by omega), lay_hi (by omega), lay_out (by omega), lay_hi (by omega), z]
  · rw [lay_hi (by omega), lay_hi (by omega), lay_hi (by omega), lay_hi (by omega), z]
theorem kbf_b {sx : Nat → Int32} {n i : Nat} (h : i < 2048) : KBF i = sb (Int32.ofNat (miF sx n i)) := by
  have e : miF sx n i = if i < 217 ∨ (256 ≤ i ∧ i < 1895) then kb i else 0 := if_pos h
  rw [e]
  by_cases c : i < 217 ∨ (256 ≤ i ∧ i < 1895)
  · rw [if_pos c, kbf c]
  · rw [if_neg c, kbf_z (by omega)]
    exact sb_0.symm
theorem kbq_256 : ∀ i, i < 1895 → kb i < 256 := by decide +kernel
def mS (sx : Nat → Int32) (n : Nat) : Nat → Nat := pw (pw (pw (pw (pw (fun k => if k < 65536 then miF sx n k else (fun _ => 0) k) 226 8000) 228 0) 230 40960) 232 8192) 234 244
theorem mS_out {sx : Nat → Int32} {n k : Nat} (h : k < 226 ∨ 236 ≤ k) (h2 : k < 65536) : mS sx n k = miF sx n k := by
  unfold mS pw
  rw [up_ne (by omega), up_ne (by omega), up_ne (by omega), up_ne (by omega), up_ne (by omega), up_ne (by omega), up_ne (by omega), up_ne (by omega), up_ne (by omega), up_ne (by omega)]
  exact if_pos h2
theorem CB_of {m : Nat → Nat} : ∀ (l : List Nat) (h : Nat), (∀ j, j < l.length → rd m (h + j) = l.getD j 0) → CB m h l
  | [], _, _ => trivial
  | b :: l, h, H => ⟨H 0 (Nat.succ_pos _), CB_of l (h + 1) (fun j hj => by
      have := H (j + 1) (by rw [List.length_cons]; omega)
      rw [show h + 1 + j = h + (j + 1) by omega]
      exact this)⟩
theorem mS_MS {sx : Nat → Int32} {n : Nat} (hn : n ≤ 26) : MS (csP 90 (cmL sx n)) (mS sx n) ∧ okR (csP 90 (cmL sx n)) ∧ (csP 90 (cmL sx n)).length = n := by
  have ok := cmL_ok (sx := sx) (n := n)
  have cn := cmL_len (sx := sx) (n := n)
  have cl := csP_len (cmL sx n) 90
  rw [cn] at cl
  have oR := row_okR (cmL sx n) 90 ok (by rw [cn]; omega)
  have ce := codeR_le (csP 90 (cmL sx n)) 2055
  rw [cl] at ce
  have bc := by_CODE oR (by rw [cl]; omega)
  have CL := CODE_len (l := csP 90 (cmL sx n))
  refine ⟨⟨fun i hi => ?_, CB_of _ _ (fun j hj => ?_), by omega, ?_, ?_, ?_, fun k h1 h2 => ?_⟩, oR, cl⟩
  · unfold rd
    rw [mS_out (by omega) (by omega)]
    have e : miF sx n i = kb i := (if_pos (by omega)).trans (if_pos hi)
    rw [e]
    exact Nat.mod_eq_of_lt (kbq_256 i (by omega))
  · unfold rd
    rw [mS_out (by omega) (by omega)]
    have e : miF sx n (2048 + j) = (CODE (csP 90 (cmL sx n))).getD j 0 := (if_neg (by omega)).trans ((if_pos (by omega)).trans (by rw [Nat.add_sub_cancel_left]))
    rw [e]
    refine Nat.mod_eq_of_lt ?_
    rw [List.getD_eq_getElem?_getD, List.getElem?_eq_getElem hj]
    exact bc _ (List.getElem_mem hj)
  · show wd (mS sx n) 226 = 8000
    simp (disch := (refine id ?_; omega)) only [mS, wd, rd, pw, up_ne, up_eq, Nat.reduceAdd, Nat.reduceMod, Nat.reduceDiv, Nat.reduceMul]
  · show wd (mS sx n) 228 = 0
    simp (disch := (refine id ?_; omega)) only [mS, wd, rd, pw, up_ne, up_eq, Nat.reduceAdd, Nat.reduceMod, Nat.reduceDiv, Nat.reduceMul]
  · show wd (mS sx n) 232 = 8192
    simp (disch := (refine id ?_; omega)) only [mS, wd, rd, pw, up_ne, up_eq, Nat.reduceAdd, Nat.reduceMod, Nat.reduceDiv, Nat.reduceMul]
  · rw [mS_out (by omega) (by omega)]
    exact (if_neg (by omega)).trans (if_neg (by omega))
