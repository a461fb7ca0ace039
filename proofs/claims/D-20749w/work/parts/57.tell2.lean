/-! The law's text: lengths, places; Form takes it -/
set_option maxRecDepth 100000
set_option maxHeartbeats 4000000
section
variable {tk tp : Nat → Int32} {tf ts : Nat → Int64}
theorem cm_tl {c : Cmd} (hc : c.ok) : (txL c.lx).length ≤ 60 ∧ c.lx.length ≤ 25 := by
  have L : ∀ (A B : List LI) (s : St) (p q m n : Nat), s.ok → (txL A).length ≤ p → (txL B).length ≤ q → A.length = m → B.length = n → p + q + 21 ≤ 60 → m + n + 8 ≤ 25 → (txL (A ++ (s.lx 1 ++ B))).length ≤ 60 ∧ (A ++ (s.lx 1 ++ B)).length ≤ 25 := by
    intro A B s p q m n hs h1 h2 h3 h4 h5 h6
    have := st_tl hs 1
    rw [txL_app, txL_app, List.length_append, List.length_append, List.length_append, List.length_append]
    omega
  refine Cmd.all (p := fun c => (txL c.lx).length ≤ 60 ∧ c.lx.length ≤ 25) ?_ ?_ ?_ ?_ ?_ ?_ hc
  · intro s ok
    have := st_tl ok.2.2.2 0
    show (txL (s.lx 0)).length ≤ 60 ∧ (s.lx 0).length ≤ 25
    omega
  · intro w u s ok; exact L _ _ s 11 4 5 1 ok.2.2.2 (Nat.le_of_ble_eq_true rfl) (Nat.le_of_ble_eq_true rfl) rfl rfl (by decide) (by decide)
  · intro a w c s ok
    refine L _ _ s 30 4 9 1 ok.2.2.2 ?_ (Nat.le_of_ble_eq_true rfl) rfl rfl (by decide) (by decide)
    simp [txL, iV, iB, iS, iE, iW, iN]
    have := dg_len (c := c)
    have := dg_len (c := 3)
    omega
  · intro a c ok
    refine ⟨?_, Nat.le_of_ble_eq_true rfl⟩
    show (txL [iW 0 [87, 114, 105, 116, 101, 73, 110, 116] 100, iS 0 40 117, iV 0 a, iS 0 44 115, iN 0 c, iS 0 41 118]).length ≤ 60
    simp [txL, iV, iB, iS, iE, iW, iN]
    have := dg_len (c := c)
    omega
  · intro w u s ok; exact L _ _ s 6 10 1 4 ok.2.2.2 (Nat.le_of_ble_eq_true rfl) (Nat.le_of_ble_eq_true rfl) rfl rfl (by decide) (by decide)
  · intro w u s ok; exact L _ _ s 12 4 5 1 ok.2.2.2 (Nat.le_of_ble_eq_true rfl) (Nat.le_of_ble_eq_true rfl) rfl rfl (by decide) (by decide)
theorem row_tl {cs : List Cmd} (h : okC cs) : (txL (rowL cs)).length ≤ 61 * cs.length ∧ (rowL cs).length ≤ 26 * cs.length := by
  induction cs with
  | nil => exact ⟨Nat.le_refl _, Nat.le_refl _⟩
  | cons c r ih =>
    have h1 := cm_tl h.1
    have h2 := ih h.2
    rw [show rowL (c :: r) = c.lx ++ (iS 0 59 116 :: rowL r) from rfl, txL_app, List.length_append, List.length_append, List.length_cons, List.length_cons, show (txL (iS 0 59 116 :: rowL r)).length = (txL (rowL r)).length + 1 from rfl]
    omega
theorem hd_tx : (txL hdL).length = 89 ∧ hdL.length = 31 := ⟨by decide, rfl⟩
theorem ofs_lt {c : Cmd} (hc : c.ok) : c.ofs ≤ 60 := by
  refine Cmd.all (p := fun c => c.ofs ≤ 60) ?_ ?_ ?_ ?_ ?_ ?_ hc
  · intro s ok; exact Nat.zero_le _
  · intro w u s ok; exact Nat.le_of_ble_eq_true rfl
  · intro a w c s ok
    show (txL [iW 0 [70, 79, 82] 15, iV 1 a, iB, iV 0 w, iW 1 [84, 79] 36, iN 1 c, iW 1 [66, 89] 4, iN 1 3, iW 1 [68, 79] 9]).length + 1 ≤ 60
    simp [txL, iV, iB, iS, iE, iW, iN]
    have := dg_len (c := c)
    have := dg_len (c := 3)
    omega
  · intro a c ok; exact Nat.zero_le _
  · intro w u s ok; exact Nat.le_of_ble_eq_true rfl
  · intro w u s ok; exact Nat.le_of_ble_eq_true rfl
theorem row_pl (cs : List Cmd) : ∀ (i k : Nat), okC cs → k + 61 * cs.length + 61 < 65536 → RDp tk tp tf ts i k (rowL cs) → plR tp i (csP k cs) := by
  induction cs with
  | nil => intro i k _ _ _; trivial
  | cons c r ih =>
    intro i k h hk hr
    rw [List.length_cons] at hk
    obtain ⟨r1, r2⟩ := (RDp_app c.lx i k).mp hr
    obtain ⟨p1, p2⟩ := cm_pl h.1 i k r1
    have t1 := cm_tl h.1
    have o1 := ofs_lt h.1
    have ml := MT_len _ _ (cm_MT h.1)
    refine ⟨⟨h.1, p1, by omega, p2, by omega⟩, ?_⟩
    rw [← ml]
    exact ih _ _ h.2 (by omega) r2.2
theorem row_okR (cs : List Cmd) : ∀ (k : Nat), okC cs → k + 61 * cs.length + 61 < 65536 → okR (csP k cs) := by
  induction cs with
  | nil => intro k _ _; trivial
  | cons c r ih =>
    intro k h hk
    rw [List.length_cons] at hk
    have t1 := cm_tl h.1
    have o1 := ofs_lt h.1
    exact ⟨⟨h.1, by omega, by omega⟩, ih _ h.2 (by omega)⟩
theorem csP_len (cs : List Cmd) : ∀ (k : Nat), (csP k cs).length = cs.length := by
  induction cs with
  | nil => intro k; rfl
  | cons c r ih => intro k; show (csP _ r).length + 1 = _; rw [ih]; rfl
/-- Form takes a simple statement, a command -/
theorem fo_s {s : St} (hs : s.ok) {i : Nat} (b : Nat) (hT : TK tk i (kdL (s.lx b))) (hy : Te (tk (i + (s.lx b).length))) (hi : i < 1700) : ∀ (g : Nat → Nat → Value) (c0 s0 d p : Nat), p + 13 < 25 → am_M (d + 13) 87 [.ref 6912212998] (HF g c0 s0 tk i p) = some (none, HF g c0 s0 tk (i + (s.lx b).length) p) := by
  have H : TK tk i (kdL (s.lx b)) → Te (tk (i + (s.lx b).length)) → ∀ (g : Nat → Nat → Value) (c0 s0 d p : Nat), p + 13 < 25 → am_M (d + 13) 87 [.ref 6912212998] (HF g c0 s0 tk i p) = some (none, HF g c0 s0 tk (i + (s.lx b).length) p) := by
    refine St.all (p := fun s => TK tk i (kdL (s.lx b)) → Te (tk (i + (s.lx b).length)) → ∀ (g : Nat → Nat → Value) (c0 s0 d p : Nat), p + 13 < 25 → am_M (d + 13) 87 [.ref 6912212998] (HF g c0 s0 tk i p) = some (none, HF g c0 s0 tk (i + (s.lx b).length) p)) ?_ ?_ ?_ ?_ ?_ ?_ ?_ ?_ hs
    · intro a w u ok hT hy g c0 s0 d p hp; exact fo_st0 (by omega) hp hT hy
    · intro a w u ok hT hy g c0 s0 d p hp; exact fo_st1 (by omega) hp hT hy
    · intro a w u ok hT hy g c0 s0 d p hp; exact fo_st2 (by omega) hp hT hy
    · intro a w u ok hT hy g c0 s0 d p hp; exact fo_st3 (by omega) hp hT hy
    · intro a w u ok hT hy g c0 s0 d p hp; exact fo_st4 (by omega) hp hT hy
    · intro w u ok hT hy g c0 s0 d p hp; exact fo_st5 (by omega) hp hT hy
    · intro a w ok hT hy g c0 s0 d p hp; exact fo_st6 (by omega) hp hT hy
    · intro a c ok hT hy g c0 s0 d p hp; exact fo_st7 (by omega) hp hT hy
  exact H hT hy
theorem TK_app {l m : List Int32} : ∀ {i : Nat}, TK tk i (l ++ m) → TK tk i l ∧ TK tk (i + l.length) m := by
  induction l with
  | nil => intro i h; exact ⟨trivial, h⟩
  | cons c l ih =>
    intro i h
    have := ih h.2
    exact ⟨⟨h.1, this.1⟩, by rw [List.length_cons, show i + (l.length + 1) = i + 1 + l.length by omega]; exact this.2⟩
theorem kdL_app {l m : List LI} : kdL (l ++ m) = kdL l ++ kdL m := List.map_append
theorem kdL_len {l : List LI} : (kdL l).length = l.length := List.length_map _
theorem Te_12 {y : Int32} (h : y = 12) : Te y := by rw [h]; decide
theorem Te_38 {y : Int32} (h : y = 38) : Te y := by rw [h]; decide
theorem Te_116 {y : Int32} (h : y = 116) : Te y := by rw [h]; decide
theorem fo_c {c : Cmd} (hc : c.ok) {i : Nat} (hT : TK tk i (kdL c.lx)) (hy : tk (i + c.lx.length) = 116) (hi : i < 1650) : ∀ (g : Nat → Nat → Value) (c0 s0 d p : Nat), p + 18 < 25 → am_M (d + 18) 87 [.ref 6912212998] (HF g c0 s0 tk i p) = some (none, HF g c0 s0 tk (i + c.lx.length) p) := by
  have inn : ∀ (A B : List LI) (s : St) (y : Int32), s.ok → TK tk i (kdL (A ++ (s.lx 1 ++ B))) → kdL B = y :: (kdL B).tail → Te y → A.length < 20 → TK tk i (kdL A) ∧ TK tk (i + A.length + (s.lx 1).length) (kdL B) ∧ ∀ (g : Nat → Nat → Value) (c0 s0 d p : Nat), p + 13 < 25 → am_M (d + 13) 87 [.ref 6912212998] (HF g c0 s0 tk (i + A.length) p) = some (none, HF g c0 s0 tk (i + A.length + (s.lx 1).length) p) := by
    intro A B s y hs h hb ht ha
    rw [kdL_app, kdL_app] at h
    obtain ⟨h1, h2⟩ := TK_app h
    obtain ⟨h2, h3⟩ := TK_app h2
    rw [kdL_len] at h2 h3
    rw [kdL_len] at h3
    refine ⟨h1, h3, fo_s hs 1 h2 ?_ (by omega)⟩
    rw [hb] at h3
    rw [h3.1]
    exact ht
  have len : ∀ (A B : List LI) (s : St), (A ++ (s.lx 1 ++ B)).length = A.length + (s.lx 1).length + B.length := by
    intro A B s; rw [List.length_append, List.length_append]; omega
  have H : TK tk i (kdL c.lx) → tk (i + c.lx.length) = 116 → ∀ (g : Nat → Nat → Value) (c0 s0 d p : Nat), p + 18 < 25 → am_M (d + 18) 87 [.ref 6912212998] (HF g c0 s0 tk i p) = some (none, HF g c0 s0 tk (i + c.lx.length) p) := by
    refine Cmd.all (p := fun c => TK tk i (kdL c.lx) → tk (i + c.lx.length) = 116 → ∀ (g : Nat → Nat → Value) (c0 s0 d p : Nat), p + 18 < 25 → am_M (d + 18) 87 [.ref 6912212998] (HF g c0 s0 tk i p) = some (none, HF g c0 s0 tk (i + c.lx.length) p)) ?_ ?_ ?_ ?_ ?_ ?_ hc
    · intro s ok hT hy g c0 s0 d p hp
      exact fo_s ok.2.2.2 0 hT (Te_116 hy) (by omega) g c0 s0 (d + 5) p (by omega)
    · intro w u s ok hT hy g c0 s0 d p hp
      obtain ⟨h1, h2, h3⟩ := inn (Cmd.iff w u s).lxa (Cmd.iff w u s).lxb s 12 ok.2.2.2 hT rfl (by decide) (by show 5 < 20; omega)
      have sl := (st_tl ok.2.2.2 1).2
      have e : i + (Cmd.iff w u s).lx.length = i + 5 + (s.lx 1).length + 1 := by
        show i + ((Cmd.iff w u s).lxa ++ (s.lx 1 ++ (Cmd.iff w u s).lxb)).length = _
        rw [len]; show i + (5 + _ + 1) = _; omega
      rw [e]
      exact fo_if (d := d + 2) (m := (s.lx 1).length) (by omega) (by omega) h1 (fun d p hp => h3 g c0 s0 d p hp) h2.1
    · intro a w c s ok hT hy g c0 s0 d p hp
      obtain ⟨h1, h2, h3⟩ := inn (Cmd.fo a w c s).lxa (Cmd.fo a w c s).lxb s 12 ok.2.2.2 hT rfl (by decide) (by show 9 < 20; omega)
      have sl := (st_tl ok.2.2.2 1).2
      have e : i + (Cmd.fo a w c s).lx.length = i + 9 + (s.lx 1).length + 1 := by
        show i + ((Cmd.fo a w c s).lxa ++ (s.lx 1 ++ (Cmd.fo a w c s).lxb)).length = _
        rw [len]; show i + (9 + _ + 1) = _; omega
      rw [e]
      exact fo_for (d := d) (m := (s.lx 1).length) (by omega) (by omega) h1 (fun d p hp => h3 g c0 s0 d p hp) h2.1
    · intro a c ok hT hy g c0 s0 d p hp
      exact fo_stW (d := d + 5) (by omega) (by omega) hT (Te_116 hy)
    · intro w u s ok hT hy g c0 s0 d p hp
      obtain ⟨h1, h2, h3⟩ := inn (Cmd.rep w u s).lxa (Cmd.rep w u s).lxb s 38 ok.2.2.2 hT rfl (by decide) (by show 1 < 20; omega)
      have sl := (st_tl ok.2.2.2 1).2
      have e : i + (Cmd.rep w u s).lx.length = i + 1 + (s.lx 1).length + 4 := by
        show i + ((Cmd.rep w u s).lxa ++ (s.lx 1 ++ (Cmd.rep w u s).lxb)).length = _
        rw [len]; show i + (1 + _ + 4) = _; omega
      rw [e] at hy
      rw [e]
      exact fo_repeat (d := d + 2) (m := (s.lx 1).length) (by omega) (by omega) h1 (fun d p hp => h3 g c0 s0 d p hp) h2.1 h2.2.1 h2.2.2.1 h2.2.2.2.1 (by rw [hy]; decide)
    · intro w u s ok hT hy g c0 s0 d p hp
      obtain ⟨h1, h2, h3⟩ := inn (Cmd.whi w u s).lxa (Cmd.whi w u s).lxb s 12 ok.2.2.2 hT rfl (by decide) (by show 5 < 20; omega)
      have sl := (st_tl ok.2.2.2 1).2
      have e : i + (Cmd.whi w u s).lx.length = i + 5 + (s.lx 1).length + 1 := by
        show i + ((Cmd.whi w u s).lxa ++ (s.lx 1 ++ (Cmd.whi w u s).lxb)).length = _
        rw [len]; show i + (5 + _ + 1) = _; omega
      rw [e]
      exact fo_while (d := d + 2) (m := (s.lx 1).length) (by omega) (by omega) h1 (fun d p hp => h3 g c0 s0 d p hp) h2.1
  exact H hT hy
/-- where command j begins -/
def bgC (cs : List Cmd) (j : Nat) : Nat := 31 + (rowL (cs.take j)).length
theorem rowL_app {a b : List Cmd} : rowL (a ++ b) = rowL a ++ rowL b := by
  induction a with
  | nil => rfl
  | cons c r ih => show c.lx ++ (iS 0 59 116 :: rowL (r ++ b)) = (c.lx ++ (iS 0 59 116 :: rowL r)) ++ rowL b; rw [ih, List.append_assoc]; rfl
theorem okC_get {cs : List Cmd} (h : okC cs) : ∀ (j : Nat) (hj : j < cs.length), (cs[j]).ok := by
  induction cs with
  | nil => intro j hj; exact absurd hj (Nat.not_lt_zero _)
  | cons c r ih =>
    intro j hj
    cases j with
    | zero => exact h.1
    | succ j => exact ih h.2 j (by rw [List.length_cons] at hj; omega)
/-- what reading the law's text gives -/
theorem all_RD {cs : List Cmd} (h : okC cs) (r : RD tk tp tf ts 0 0 (allL cs)) : RDp tk tp tf ts 0 0 hdL ∧ RDp tk tp tf ts 31 90 (rowL cs) ∧ RD tk tp tf ts (31 + (rowL cs).length) (90 + (txL (rowL cs)).length) tlL := by
  unfold allL at r
  obtain ⟨r1, r2⟩ := (RD_app hdL 0 0).mp r
  rw [hd_tx.1, hd_tx.2] at r2
  have r3 := bump_RD row_ne r2
  obtain ⟨r4, r5⟩ := (RD_app (rowL cs) _ _).mp r3
  exact ⟨r1, r4, r5⟩
theorem fo_all {cs : List Cmd} (h : okC cs) (hn : cs.length < 27) (r : RD tk tp tf ts 0 0 (allL cs)) {d : Nat} {hp : am_H} (q0 : am_g hp 6912212998 0 = .ref 6928990215) (q1 : am_g hp 124537274373 2 = .ref 124570956906) (q2 : ∀ j, am_g hp 124570956906 j = .int (tk j)) : am_M (d + 22) 65 [.ref 6912212998, .ref 124537274373] hp = some (some (.int 1), HF hp.2.2 hp.1 hp.2.1 tk (31 + (rowL cs).length + 4) 1) := by
  obtain ⟨r1, r2, r3⟩ := all_RD h r
  have rl := (row_tl h).2
  have hT := RDp_TK _ _ _ r1
  have hR := RDp_TK _ _ _ r2
  have sp : ∀ j (hj : j < cs.length), TK tk (bgC cs j) (kdL cs[j].lx) ∧ tk (bgC cs j + cs[j].lx.length) = 116 ∧ bgC cs (j + 1) = bgC cs j + cs[j].lx.length + 1 ∧ bgC cs j + cs[j].lx.length < 1000 := by
    intro j hj
    have e : cs = cs.take j ++ (cs[j] :: cs.drop (j + 1)) := by
      conv => lhs; rw [← List.take_append_drop j cs]
      rw [List.drop_eq_getElem_cons hj]
    have e2 : cs.take (j + 1) = cs.take j ++ [cs[j]] := List.take_succ_eq_append_getElem hj
    have e3 : rowL cs = rowL (cs.take j) ++ (cs[j].lx ++ (iS 0 59 116 :: rowL (cs.drop (j + 1)))) := by
      conv => lhs; rw [e]
      rw [rowL_app]; rfl
    have l3 := congrArg List.length e3
    rw [List.length_append, List.length_append, List.length_cons] at l3
    rw [e3, kdL_app, kdL_app] at hR
    obtain ⟨-, h2⟩ := TK_app hR
    obtain ⟨h2, h3⟩ := TK_app h2
    rw [kdL_len] at h2 h3
    rw [kdL_len] at h3
    refine ⟨h2, h3.1, ?_, ?_⟩
    · unfold bgC
      rw [e2, rowL_app, List.length_append]
      show _ + (_ + (cs[j].lx ++ (iS 0 59 116 :: [])).length) = _
      rw [List.length_append, List.length_singleton]; omega
    · unfold bgC; omega
  have bM : bgC cs cs.length = 31 + (rowL cs).length := by unfold bgC; rw [List.take_length]
  have r3' : TK tk (31 + (rowL cs).length) [12, 100, 114, 0] := ⟨r3.1.1, r3.2.1.1, r3.2.2.1.1, r3.2.2.2.1, trivial⟩
  have := fo_isUnit (d := d) (h := hp) (tk := tk) cs.length (bgC cs) (fun j => if hj : j < cs.length then bgC cs j + cs[j].lx.length else 0) (fun j hj g c0 s0 d p hp => by
    obtain ⟨s1, s2, s3, s4⟩ := sp j hj
    have q := fo_c (okC_get h j hj) s1 s2 (by omega) g c0 s0 d p hp
    simp only [hj, dite_true]
    exact q) (fun j hj => by
    obtain ⟨s1, s2, s3, s4⟩ := sp j hj
    simp only [hj, dite_true]
    exact ⟨s2, s3, by omega⟩) hT rfl (by rw [bM]; exact r3') (by rw [bM]; omega) q0 q1 q2
  rw [bM] at this
  exact this
end
