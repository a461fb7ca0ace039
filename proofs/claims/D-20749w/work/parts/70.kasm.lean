/-! the assembler of the run time system (printed by gen/kasm.py) -/
set_option maxRecDepth 100000
set_option maxHeartbeats 1000000
def HA (g : Nat → Nat → Value) (c0 s0 : Nat) (kn : Nat) (he : Nat) (fi : Int32) (kb : Nat → Int32) (nm : Nat → Value) (pc : Nat → Int32) : am_H := (c0, s0, fun a k => if a = 7264534539 then (if k = 3 then .ref 7331774505 else if k = 4 then .ref 7348426796 else if k = 5 then .ref 7365204008 else if k = 6 then .int (Int32.ofNat kn) else if k = 7 then .int (Int32.ofNat he) else if k = 8 then .int fi else g a k) else if a = 7331774505 then .int (kb k) else if a = 7348426796 then  (nm k) else if a = 7365204008 then .int (pc k) else g a k)
theorem HA_r0 {g : Nat → Nat → Value} {c0 s0 : Nat} {kn : Nat} {he : Nat} {fi : Int32} {kb : Nat → Int32} {nm : Nat → Value} {pc : Nat → Int32} : am_g (HA g c0 s0 kn he fi kb nm pc) 7264534539 3 = .ref 7331774505 := rfl
theorem HA_r1 {g : Nat → Nat → Value} {c0 s0 : Nat} {kn : Nat} {he : Nat} {fi : Int32} {kb : Nat → Int32} {nm : Nat → Value} {pc : Nat → Int32} : am_g (HA g c0 s0 kn he fi kb nm pc) 7264534539 4 = .ref 7348426796 := rfl
theorem HA_r2 {g : Nat → Nat → Value} {c0 s0 : Nat} {kn : Nat} {he : Nat} {fi : Int32} {kb : Nat → Int32} {nm : Nat → Value} {pc : Nat → Int32} : am_g (HA g c0 s0 kn he fi kb nm pc) 7264534539 5 = .ref 7365204008 := rfl
theorem HA_r3 {g : Nat → Nat → Value} {c0 s0 : Nat} {kn : Nat} {he : Nat} {fi : Int32} {kb : Nat → Int32} {nm : Nat → Value} {pc : Nat → Int32} : am_g (HA g c0 s0 kn he fi kb nm pc) 7264534539 6 = .int (Int32.ofNat kn) := rfl
theorem HA_w3 {g : Nat → Nat → Value} {c0 s0 : Nat} {kn : Nat} {he : Nat} {fi : Int32} {kb : Nat → Int32} {nm : Nat → Value} {pc : Nat → Int32} {w : Nat} : am_p (HA g c0 s0 kn he fi kb nm pc) 7264534539 6 (.int (Int32.ofNat w)) = HA g c0 s0 w he fi kb nm pc := by
  refine Prod.ext rfl (Prod.ext rfl ?_)
  funext b j
  show (if b = 7264534539 ∧ j = 6 then _ else (HA g c0 s0 kn he fi kb nm pc).2.2 b j) = (HA g c0 s0 w he fi kb nm pc).2.2 b j
  by_cases h : b = 7264534539
  · subst h
    by_cases h2 : j = 6
    · subst h2; rfl
    · simp [HA, h2]
  · simp [HA, h]
theorem HA_r4 {g : Nat → Nat → Value} {c0 s0 : Nat} {kn : Nat} {he : Nat} {fi : Int32} {kb : Nat → Int32} {nm : Nat → Value} {pc : Nat → Int32} : am_g (HA g c0 s0 kn he fi kb nm pc) 7264534539 7 = .int (Int32.ofNat he) := rfl
theorem HA_w4 {g : Nat → Nat → Value} {c0 s0 : Nat} {kn : Nat} {he : Nat} {fi : Int32} {kb : Nat → Int32} {nm : Nat → Value} {pc : Nat → Int32} {w : Nat} : am_p (HA g c0 s0 kn he fi kb nm pc) 7264534539 7 (.int (Int32.ofNat w)) = HA g c0 s0 kn w fi kb nm pc := by
  refine Prod.ext rfl (Prod.ext rfl ?_)
  funext b j
  show (if b = 7264534539 ∧ j = 7 then _ else (HA g c0 s0 kn he fi kb nm pc).2.2 b j) = (HA g c0 s0 kn w fi kb nm pc).2.2 b j
  by_cases h : b = 7264534539
  · subst h
    by_cases h2 : j = 7
    · subst h2; rfl
    · simp [HA, h2]
  · simp [HA, h]
theorem HA_r5 {g : Nat → Nat → Value} {c0 s0 : Nat} {kn : Nat} {he : Nat} {fi : Int32} {kb : Nat → Int32} {nm : Nat → Value} {pc : Nat → Int32} : am_g (HA g c0 s0 kn he fi kb nm pc) 7264534539 8 = .int fi := rfl
theorem HA_w5 {g : Nat → Nat → Value} {c0 s0 : Nat} {kn : Nat} {he : Nat} {fi : Int32} {kb : Nat → Int32} {nm : Nat → Value} {pc : Nat → Int32} {w : Int32} : am_p (HA g c0 s0 kn he fi kb nm pc) 7264534539 8 (.int w) = HA g c0 s0 kn he w kb nm pc := by
  refine Prod.ext rfl (Prod.ext rfl ?_)
  funext b j
  show (if b = 7264534539 ∧ j = 8 then _ else (HA g c0 s0 kn he fi kb nm pc).2.2 b j) = (HA g c0 s0 kn he w kb nm pc).2.2 b j
  by_cases h : b = 7264534539
  · subst h
    by_cases h2 : j = 8
    · subst h2; rfl
    · simp [HA, h2]
  · simp [HA, h]
theorem HA_a0 {g : Nat → Nat → Value} {c0 s0 : Nat} {kn : Nat} {he : Nat} {fi : Int32} {kb : Nat → Int32} {nm : Nat → Value} {pc : Nat → Int32} {j : Nat} : am_g (HA g c0 s0 kn he fi kb nm pc) 7331774505 j = .int (kb j) := rfl
theorem HA_b0 {g : Nat → Nat → Value} {c0 s0 : Nat} {kn : Nat} {he : Nat} {fi : Int32} {kb : Nat → Int32} {nm : Nat → Value} {pc : Nat → Int32} {j : Nat} {w : Int32} : am_p (HA g c0 s0 kn he fi kb nm pc) 7331774505 j (.int w) = HA g c0 s0 kn he fi (up kb j w) nm pc := by
  refine Prod.ext rfl (Prod.ext rfl ?_)
  funext b i
  show (if b = 7331774505 ∧ i = j then _ else (HA g c0 s0 kn he fi kb nm pc).2.2 b i) = (HA g c0 s0 kn he fi (up kb j w) nm pc).2.2 b i
  by_cases h : b = 7331774505
  · subst h
    by_cases h2 : i = j
    · subst h2; simp [HA, up]
    · simp [HA, up, h2]
  · simp [HA, h]
theorem HA_a1 {g : Nat → Nat → Value} {c0 s0 : Nat} {kn : Nat} {he : Nat} {fi : Int32} {kb : Nat → Int32} {nm : Nat → Value} {pc : Nat → Int32} {j : Nat} : am_g (HA g c0 s0 kn he fi kb nm pc) 7348426796 j =  (nm j) := rfl
theorem HA_b1 {g : Nat → Nat → Value} {c0 s0 : Nat} {kn : Nat} {he : Nat} {fi : Int32} {kb : Nat → Int32} {nm : Nat → Value} {pc : Nat → Int32} {j : Nat} {w : Value} : am_p (HA g c0 s0 kn he fi kb nm pc) 7348426796 j ( w) = HA g c0 s0 kn he fi kb (up nm j w) pc := by
  refine Prod.ext rfl (Prod.ext rfl ?_)
  funext b i
  show (if b = 7348426796 ∧ i = j then _ else (HA g c0 s0 kn he fi kb nm pc).2.2 b i) = (HA g c0 s0 kn he fi kb (up nm j w) pc).2.2 b i
  by_cases h : b = 7348426796
  · subst h
    by_cases h2 : i = j
    · subst h2; simp [HA, up]
    · simp [HA, up, h2]
  · simp [HA, h]
theorem HA_a2 {g : Nat → Nat → Value} {c0 s0 : Nat} {kn : Nat} {he : Nat} {fi : Int32} {kb : Nat → Int32} {nm : Nat → Value} {pc : Nat → Int32} {j : Nat} : am_g (HA g c0 s0 kn he fi kb nm pc) 7365204008 j = .int (pc j) := rfl
theorem HA_b2 {g : Nat → Nat → Value} {c0 s0 : Nat} {kn : Nat} {he : Nat} {fi : Int32} {kb : Nat → Int32} {nm : Nat → Value} {pc : Nat → Int32} {j : Nat} {w : Int32} : am_p (HA g c0 s0 kn he fi kb nm pc) 7365204008 j (.int w) = HA g c0 s0 kn he fi kb nm (up pc j w) := by
  refine Prod.ext rfl (Prod.ext rfl ?_)
  funext b i
  show (if b = 7365204008 ∧ i = j then _ else (HA g c0 s0 kn he fi kb nm pc).2.2 b i) = (HA g c0 s0 kn he fi kb nm (up pc j w)).2.2 b i
  by_cases h : b = 7365204008
  · subst h
    by_cases h2 : i = j
    · subst h2; simp [HA, up]
    · simp [HA, up, h2]
  · simp [HA, h]
theorem HA_of {h : am_H} {kn : Nat} {he : Nat} {fi : Int32} {kb : Nat → Int32} {nm : Nat → Value} {pc : Nat → Int32} (hc0 : am_g h 7264534539 3 = .ref 7331774505) (hc1 : am_g h 7264534539 4 = .ref 7348426796) (hc2 : am_g h 7264534539 5 = .ref 7365204008) (hc3 : am_g h 7264534539 6 = .int (Int32.ofNat kn)) (hc4 : am_g h 7264534539 7 = .int (Int32.ofNat he)) (hc5 : am_g h 7264534539 8 = .int fi) (ha0 : ∀ j, am_g h 7331774505 j = .int (kb j)) (ha1 : ∀ j, am_g h 7348426796 j =  (nm j)) (ha2 : ∀ j, am_g h 7365204008 j = .int (pc j)) : h = HA h.2.2 h.1 h.2.1 kn he fi kb nm pc := by
  refine Prod.ext rfl (Prod.ext rfl ?_)
  funext b j
  refine hs_ite (fun e => ?_) (fun _ => ?_)
  · subst e
    refine hs_ite (fun e => by subst e; exact hc0) (fun _ => ?_)
    refine hs_ite (fun e => by subst e; exact hc1) (fun _ => ?_)
    refine hs_ite (fun e => by subst e; exact hc2) (fun _ => ?_)
    refine hs_ite (fun e => by subst e; exact hc3) (fun _ => ?_)
    refine hs_ite (fun e => by subst e; exact hc4) (fun _ => ?_)
    refine hs_ite (fun e => by subst e; exact hc5) (fun _ => ?_)
    rfl
  refine hs_ite (fun e => by subst e; exact ha0 _) (fun _ => ?_)
  refine hs_ite (fun e => by subst e; exact ha1 _) (fun _ => ?_)
  refine hs_ite (fun e => by subst e; exact ha2 _) (fun _ => ?_)
  rfl
/-- a string that is not the kernel's bytes -/
def STK (h : am_H) (a : Nat) (l : List Nat) : Prop := STR h a l ∧ l.length < 2048
/-- nothing but the kernel's cells changes -/
def FRM (h h' : am_H) : Prop := ∀ x k, am_i x < h.1 → (x = 7264534539 → k < 3) → x ≠ 7331774505 → x ≠ 7348426796 → x ≠ 7365204008 → am_g h' x k = am_g h x k
theorem FRM_r {h : am_H} : FRM h h := fun _ _ _ _ _ _ _ => rfl
theorem FRM_t {h h' h'' : am_H} (a : FRM h h') (l : h.1 ≤ h'.1) (b : FRM h' h'') : FRM h h'' := fun x k h0 h1 h2 h3 h4 => (b x k (Nat.lt_of_lt_of_le h0 l) h1 h2 h3 h4).trans (a x k h0 h1 h2 h3 h4)
theorem STK_m {h h' : am_H} {a : Nat} {l : List Nat} (s : STK h a l) (h1 : h.1 ≤ h'.1) (f : FRM h h') : STK h' a l := by
  obtain ⟨⟨s0, s1, s2, s3, s4, b, s5, s6, s7, s8, s9⟩, s10⟩ := s
  have na : a ≠ 7264534539 ∧ a ≠ 7331774505 ∧ a ≠ 7348426796 ∧ a ≠ 7365204008 := by
    refine ⟨?_, ?_, ?_, ?_⟩ <;> (intro e; rw [e] at s0; revert s0; decide)
  have nb : b ≠ 7264534539 ∧ b ≠ 7331774505 ∧ b ≠ 7348426796 ∧ b ≠ 7365204008 := by
    refine ⟨?_, ?_, ?_, ?_⟩
    · intro e; rw [e] at s6; revert s6; decide
    · intro e
      rw [e] at s7
      have : am_n 7331774505 = 2048 := by decide
      omega
    · intro e; rw [e] at s6; revert s6; decide
    · intro e; rw [e] at s6; revert s6; decide
  refine ⟨⟨s0, ?_, by omega, s3, s4, b, ?_, s6, s7, by omega, fun j hj => ?_⟩, s10⟩
  · rw [f a 1 s2 (fun e => absurd e na.1) na.2.1 na.2.2.1 na.2.2.2]; exact s1
  · rw [f a 0 s2 (fun e => absurd e na.1) na.2.1 na.2.2.1 na.2.2.2]; exact s5
  · rw [f b j s8 (fun e => absurd e nb.1) nb.2.1 nb.2.2.1 nb.2.2.2]; exact s9 j hj
theorem HA_frm {g : Nat → Nat → Value} {c0 s0 kn he : Nat} {fi : Int32} {kb : Nat → Int32} {nm : Nat → Value} {pc : Nat → Int32} {kn2 he2 : Nat} {fi2 : Int32} {kb2 : Nat → Int32} {nm2 : Nat → Value} {pc2 : Nat → Int32} : FRM (HA g c0 s0 kn he fi kb nm pc) (HA g c0 s0 kn2 he2 fi2 kb2 nm2 pc2) := fun x k _ h1 h2 h3 h4 => by
  by_cases e : x = 7264534539
  · have k3 := h1 e
    subst e
    have : k = 0 ∨ k = 1 ∨ k = 2 := by omega
    rcases this with r | r | r <;> subst r <;> rfl
  show (if x = 7264534539 then _ else if x = 7331774505 then _ else if x = 7348426796 then _ else if x = 7365204008 then _ else g x k) = (if x = 7264534539 then _ else if x = 7331774505 then _ else if x = 7348426796 then _ else if x = 7365204008 then _ else g x k)
  rw [if_neg e, if_neg h2, if_neg h3, if_neg h4, if_neg e, if_neg h2, if_neg h3, if_neg h4]
theorem HA_to {g : Nat → Nat → Value} {c0 s0 kn he : Nat} {fi : Int32} {kb : Nat → Int32} {nm : Nat → Value} {pc : Nat → Int32} {h : am_H} (hc : 440 ≤ c0) (f : ∀ x k, am_i x < c0 → am_g h x k = am_g (HA g c0 s0 kn he fi kb nm pc) x k) : h = HA h.2.2 h.1 h.2.1 kn he fi kb nm pc := by
  apply HA_of
  all_goals first | (intro j; exact f _ _ (Nat.lt_of_lt_of_le (by decide) hc)) | exact f _ _ (Nat.lt_of_lt_of_le (by decide) hc)
/-- the names and their places -/
def NAM (h : am_H) (N : List (List Nat × Nat)) (nm : Nat → Value) (pc : Nat → Int32) : Prop := ∀ j, j < N.length → (∃ a, nm j = .ref a ∧ am_P ≤ am_i a ∧ STK h a (N.getD j ([], 0)).1) ∧ pc j = Int32.ofNat (N.getD j ([], 0)).2 ∧ (N.getD j ([], 0)).2 < 65536
theorem NAM_m {h h' : am_H} {N : List (List Nat × Nat)} {nm : Nat → Value} {pc : Nat → Int32} (n : NAM h N nm pc) (h1 : h.1 ≤ h'.1) (f : FRM h h') : NAM h' N nm pc := fun j hj => by
  obtain ⟨⟨a, b, c, d⟩, e⟩ := n j hj
  exact ⟨⟨a, b, c, STK_m d h1 f⟩, e⟩
theorem k_emit {g : Nat → Nat → Value} {c0 s0 kn he : Nat} {fi : Int32} {kb : Nat → Int32} {nm : Nat → Value} {pc : Nat → Int32} {v : Int32} {d : Nat} (hh : he < 2048) : am_M (d + 1) 204 [.ref 7264534539, .int v] (HA g c0 s0 kn he fi kb nm pc) = some (none, HA g c0 s0 kn (he + 1) fi (up kb he (sb v)) nm pc) := by
  have t1 : (Int32.ofNat he).toNatClampNeg = he := tn_of (by omega)
  have h1 : Int32.ofNat he + 1 = Int32.ofNat (he + 1) := n_add (y := 1)
  rw [e204]
  simp (disch := (refine id ?_; first | with_reducible assumption | exact Nat.ne_of_beq_eq_false rfl | with_unfolding_all exact rfl | with_unfolding_all exact Nat.le_of_ble_eq_true rfl | (simp only [am_cat_nil, am_cat_int, am_cat_ref, am_cat_null, am_cat_long, Nat.reduceAdd, Nat.reduceLeDiff]; done) | omega | exact i_bnd2 (by simp only [am_n, Nat.reduceDiv, Nat.reduceMod, Nat.reduceMul, Nat.reduceAdd]; omega) | decide | fail)) only [z204_0, z204_1, z204_4, z204_5, z204_8, z204_9, z204_10, z204_11, z204_12, z204_12I, z204_13, z204_16, z204_17, z204_18, z204_21, HA_r0, HA_r1, HA_r2, HA_r3, HA_r4, HA_r5, HA_a0, HA_a1, HA_a2, HA_w3, HA_w4, HA_w5, HA_b0, HA_b1, HA_b2, t1, h1, i8_8, ↓am_kc_f, am_kc_s, ↓reduceIte, i_10, i_00, i_eqll, i_lell, Nat.reduceEqDiff, Nat.reduceLeDiff, am_then_some, am_tl1, am_tl0, List.nil_append, Nat.reduceAdd, ad2]
def asF : List (List Nat × Nat) → List Nat → Nat
  | [], _ => 0
  | (n, p) :: r, w => if n = w then p else asF r w
theorem k_find {g : Nat → Nat → Value} {c0 s0 kn he : Nat} {fi : Int32} {kb : Nat → Int32} {nm : Nat → Value} {pc : Nat → Int32} {N : List (List Nat × Nat)} {a d : Nat} {w : List Nat} (hN : NAM (HA g c0 s0 kn he fi kb nm pc) N nm pc) (hk : kn = N.length) (hn : N.length < 96) (S : STK (HA g c0 s0 kn he fi kb nm pc) a w) (hp : am_P ≤ am_i a) : ∀ (m k : Nat), k + m = N.length →
    ∃ r : Int32, am_G (d + 2) 203 2 [some (.ref 7264534539), some (.ref a), some (.int (Int32.ofNat k))] [] (HA g c0 s0 kn he fi kb nm pc) = some (some (.int r), (HA g c0 s0 kn he fi kb nm pc)) ∧ ((r = -1 ∧ asF (N.drop k) w = 0) ∨ ∃ j, r = Int32.ofNat j ∧ j < N.length ∧ (N.getD j ([], 0)).2 = asF (N.drop k) w) := by
  intro m
  induction m with
  | zero =>
    intro k hm
    have c : (Int32.ofNat kn ≤ Int32.ofNat k) = True := (n_le (by omega) (by omega)).trans (eq_true (by omega))
    refine ⟨-1, ?_, Or.inl ⟨rfl, by rw [List.drop_eq_nil_of_le (by omega)]; rfl⟩⟩
    rw [z203_2]
    simp (disch := (refine id ?_; first | with_reducible assumption | exact Nat.ne_of_beq_eq_false rfl | with_unfolding_all exact rfl | with_unfolding_all exact Nat.le_of_ble_eq_true rfl | (simp only [am_cat_nil, am_cat_int, am_cat_ref, am_cat_null, am_cat_long, Nat.reduceAdd, Nat.reduceLeDiff]; done) | omega | exact i_bnd2 (by simp only [am_n, Nat.reduceDiv, Nat.reduceMod, Nat.reduceMul, Nat.reduceAdd]; omega) | decide | fail)) only [z203_3, z203_4, z203_7, z203_10, z203_11, z203_14, z203_15, z203_16, z203_16N, z203_17, z203_20, z203_23, z203_24, z203_25, z203_28, z203_31, z203_32, HA_r0, HA_r1, HA_r2, HA_r3, HA_r4, HA_r5, HA_a0, HA_a1, HA_a2, HA_w3, HA_w4, HA_w5, HA_b0, HA_b1, HA_b2, c, ↓am_kc_f, am_kc_s, ↓reduceIte, i_10, i_00, i_eqll, i_lell, Nat.reduceEqDiff, Nat.reduceLeDiff, am_then_some, am_tl1, am_tl0, List.nil_append, Nat.reduceAdd, ad2]
  | succ m ih =>
    intro k hm
    have c : (Int32.ofNat kn ≤ Int32.ofNat k) = False := (n_le (by omega) (by omega)).trans (eq_false (by omega))
    obtain ⟨⟨b, e1, e2, e3⟩, e4⟩ := hN k (by omega)
    have Q := str_eq (d := d) hp e3.1 S.1
    have t1 : (Int32.ofNat k).toNatClampNeg = k := tn_of (by omega)
    have b1 : ¬ (Int32.ofNat k < 0 ∨ am_n 7348426796 ≤ (Int32.ofNat k).toNatClampNeg) := i_bnd2 (by simp only [am_n, Nat.reduceDiv, Nat.reduceMod]; omega)
    have bk : am_k b = 19 := e3.1.1
    have k1 : Int32.ofNat k + 1 = Int32.ofNat (k + 1) := n_add (y := 1)
    have hd : N.drop k = N.getD k ([], 0) :: N.drop (k + 1) := by
      rw [List.drop_eq_getElem_cons (by omega)]
      congr 1
      rw [List.getD_eq_getElem?_getD, List.getElem?_eq_getElem (by omega)]
      rfl
    by_cases q : (N.getD k ([], 0)).1 = w
    · rw [if_pos q] at Q
      refine ⟨Int32.ofNat k, ?_, Or.inr ⟨k, rfl, by omega, ?_⟩⟩
      · rw [z203_2]
        simp (disch := (refine id ?_; first | with_reducible assumption | exact Nat.ne_of_beq_eq_false rfl | with_unfolding_all exact rfl | with_unfolding_all exact Nat.le_of_ble_eq_true rfl | (simp only [am_cat_nil, am_cat_int, am_cat_ref, am_cat_null, am_cat_long, Nat.reduceAdd, Nat.reduceLeDiff]; done) | omega | exact i_bnd2 (by simp only [am_n, Nat.reduceDiv, Nat.reduceMod, Nat.reduceMul, Nat.reduceAdd]; omega) | decide | fail)) only [z203_3, z203_4, z203_7, z203_10, z203_11, z203_14, z203_15, z203_16, z203_16N, z203_17, z203_20, z203_23, z203_24, z203_25, z203_28, z203_31, z203_32, HA_r0, HA_r1, HA_r2, HA_r3, HA_r4, HA_r5, HA_a0, HA_a1, HA_a2, HA_w3, HA_w4, HA_w5, HA_b0, HA_b1, HA_b2, c, Q, t1, b1, e1, bk, ↓am_kc_f, am_kc_s, ↓reduceIte, i_10, i_00, i_eqll, i_lell, Nat.reduceEqDiff, Nat.reduceLeDiff, am_then_some, am_tl1, am_tl0, List.nil_append, Nat.reduceAdd, ad2]
      · rw [hd]
        show _ = if (N.getD k ([], 0)).1 = w then (N.getD k ([], 0)).2 else _
        rw [if_pos q]
    · rw [if_neg q] at Q
      obtain ⟨r, I1, I2⟩ := ih (k + 1) (by omega)
      refine ⟨r, ?_, ?_⟩
      · rw [z203_2]
        simp (disch := (refine id ?_; first | with_reducible assumption | exact Nat.ne_of_beq_eq_false rfl | with_unfolding_all exact rfl | with_unfolding_all exact Nat.le_of_ble_eq_true rfl | (simp only [am_cat_nil, am_cat_int, am_cat_ref, am_cat_null, am_cat_long, Nat.reduceAdd, Nat.reduceLeDiff]; done) | omega | exact i_bnd2 (by simp only [am_n, Nat.reduceDiv, Nat.reduceMod, Nat.reduceMul, Nat.reduceAdd]; omega) | decide | fail)) only [z203_3, z203_4, z203_7, z203_10, z203_11, z203_14, z203_15, z203_16, z203_16N, z203_17, z203_20, z203_23, z203_24, z203_25, z203_28, z203_31, z203_32, HA_r0, HA_r1, HA_r2, HA_r3, HA_r4, HA_r5, HA_a0, HA_a1, HA_a2, HA_w3, HA_w4, HA_w5, HA_b0, HA_b1, HA_b2, c, Q, t1, b1, e1, bk, k1, I1, ↓am_kc_f, am_kc_s, ↓reduceIte, i_10, i_00, i_eqll, i_lell, Nat.reduceEqDiff, Nat.reduceLeDiff, am_then_some, am_tl1, am_tl0, List.nil_append, Nat.reduceAdd, ad2]
      · have : asF (N.drop k) w = asF (N.drop (k + 1)) w := by
          rw [hd]
          show (if (N.getD k ([], 0)).1 = w then _ else _) = _
          rw [if_neg q]
        rw [this]
        exact I2
theorem k_findM {g : Nat → Nat → Value} {c0 s0 kn he : Nat} {fi : Int32} {kb : Nat → Int32} {nm : Nat → Value} {pc : Nat → Int32} {N : List (List Nat × Nat)} {a d : Nat} {w : List Nat} (hN : NAM (HA g c0 s0 kn he fi kb nm pc) N nm pc) (hk : kn = N.length) (hn : N.length < 96) (S : STK (HA g c0 s0 kn he fi kb nm pc) a w) (hp : am_P ≤ am_i a) : ∃ r : Int32, am_M (d + 3) 203 [.ref 7264534539, .ref a] (HA g c0 s0 kn he fi kb nm pc) = some (some (.int r), (HA g c0 s0 kn he fi kb nm pc)) ∧ ((r = -1 ∧ asF N w = 0) ∨ ∃ j, r = Int32.ofNat j ∧ j < N.length ∧ (N.getD j ([], 0)).2 = asF N w) := by
  obtain ⟨r, e1, e2⟩ := k_find (d := d) hN hk hn S hp N.length 0 (Nat.zero_add _)
  refine ⟨r, ?_, e2⟩
  have e1' : am_G (d + 2) 203 2 [some (.ref 7264534539), some (.ref a), some (.int 0)] [] (HA g c0 s0 kn he fi kb nm pc) = some (some (.int r), (HA g c0 s0 kn he fi kb nm pc)) := e1
  rw [e203 rfl, z203_0, z203_1, e1']
def hx (c : Nat) : Nat := if c ≤ 57 then c - 48 else c - 55
theorem k_digit {h : am_H} {c d : Nat} (hc : c < 128) (h1 : 48 ≤ c) (h2 : c ≤ 57 ∨ 65 ≤ c) : am_M (d + 1) 205 [.int (Int32.ofNat c)] h = some (some (.int (Int32.ofNat (hx c))), h) := by
  rw [e205]
  unfold hx
  by_cases q : c ≤ 57
  · have z : ((57 : Int32) < Int32.ofNat c) = False := (n_gtl c 57 (by omega) (by decide)).trans (eq_false (show ¬ 57 < c by omega))
    have z2 : (Int32.ofNat c ≤ 57) = True := (n_lel c 57 (by omega) (by decide)).trans (eq_true (show ¬ 57 < c by omega))
    have s : Int32.ofNat c - 48 = Int32.ofNat (c - 48) := n_subl c 48 h1
    rw [if_pos q]
    simp (disch := (refine id ?_; first | with_reducible assumption | exact Nat.ne_of_beq_eq_false rfl | with_unfolding_all exact rfl | with_unfolding_all exact Nat.le_of_ble_eq_true rfl | (simp only [am_cat_nil, am_cat_int, am_cat_ref, am_cat_null, am_cat_long, Nat.reduceAdd, Nat.reduceLeDiff]; done) | omega | exact i_bnd2 (by simp only [am_n, Nat.reduceDiv, Nat.reduceMod, Nat.reduceMul, Nat.reduceAdd]; omega) | decide | fail)) only [z205_0, z205_1, z205_3, z205_6, z205_7, z205_9, z205_10, z205_13, z205_14, z205_16, z205_17, z205_19, z205_20, HA_r0, HA_r1, HA_r2, HA_r3, HA_r4, HA_r5, HA_a0, HA_a1, HA_a2, HA_w3, HA_w4, HA_w5, HA_b0, HA_b1, HA_b2, z, z2, s, ↓am_kc_f, am_kc_s, ↓reduceIte, i_10, i_00, i_eqll, i_lell, Nat.reduceEqDiff, Nat.reduceLeDiff, am_then_some, am_tl1, am_tl0, List.nil_append, Nat.reduceAdd, ad2]
  · have z : ((57 : Int32) < Int32.ofNat c) = True := (n_gtl c 57 (by omega) (by decide)).trans (eq_true (show 57 < c by omega))
    have z2 : (Int32.ofNat c ≤ 57) = False := (n_lel c 57 (by omega) (by decide)).trans (eq_false (show ¬ ¬ 57 < c by omega))
    have s : Int32.ofNat c - 65 = Int32.ofNat (c - 65) := n_subl c 65 (show 65 ≤ c by omega)
    have s2 : Int32.ofNat (c - 65) + 10 = Int32.ofNat (c - 55) := by
      have : Int32.ofNat (c - 65) + 10 = Int32.ofNat (c - 65 + 10) := n_add (y := 10)
      rw [this]
      congr 1
      omega
    rw [if_neg q]
    simp (disch := (refine id ?_; first | with_reducible assumption | exact Nat.ne_of_beq_eq_false rfl | with_unfolding_all exact rfl | with_unfolding_all exact Nat.le_of_ble_eq_true rfl | (simp only [am_cat_nil, am_cat_int, am_cat_ref, am_cat_null, am_cat_long, Nat.reduceAdd, Nat.reduceLeDiff]; done) | omega | exact i_bnd2 (by simp only [am_n, Nat.reduceDiv, Nat.reduceMod, Nat.reduceMul, Nat.reduceAdd]; omega) | decide | fail)) only [z205_0, z205_1, z205_3, z205_6, z205_7, z205_9, z205_10, z205_13, z205_14, z205_16, z205_17, z205_19, z205_20, HA_r0, HA_r1, HA_r2, HA_r3, HA_r4, HA_r5, HA_a0, HA_a1, HA_a2, HA_w3, HA_w4, HA_w5, HA_b0, HA_b1, HA_b2, z, z2, s, s2, ↓am_kc_f, am_kc_s, ↓reduceIte, i_10, i_00, i_eqll, i_lell, Nat.reduceEqDiff, Nat.reduceLeDiff, am_then_some, am_tl1, am_tl0, List.nil_append, Nat.reduceAdd, ad2]
