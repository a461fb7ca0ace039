/-! the contract of the constructor of the run time system (printed by gen/kctor.py) -/
set_option maxRecDepth 100000
set_option maxHeartbeats 4000000
def KLW (A : Nat → Nat → Value) : Nat → Nat → Value := (wo (wo (wo (wo (wo (wo (wo (wb A) 7264534539 (up (up (up (up (up (up (A 7264534539) 0 (.ref 7281313388)) 1 (.ref 7298090668)) 2 (.ref 7314866860)) 3 (.ref 7331774505)) 4 (.ref 7348426796)) 5 (.ref 7365204008))) 7281313388 KF0) 7298090668 KF1) 7314866860 KF2) 7331774505 (up (up (up (fun _ => .int 0) 8 (.int (sb (-45)))) 9 (.int (sb 1))) 10 (.int (sb (-55))))) 7348426796 (fun _ => .null)) 7365204008 (fun _ => .int 0))
theorem klw_low {A W : Nat → Nat → Value} (h : LOW A W) : LOW (KLW A) W := LOW_w (LOW_w (LOW_w (LOW_w (LOW_w (LOW_w (LOW_w (h) (by decide)) (by decide)) (by decide)) (by decide)) (by decide)) (by decide)) (by decide)
theorem kstk {A B W : Nat → Nat → Value} {c s j : Nat} {t : List (List Nat)} (G : GS W) (h : LOW A W) (hj : j < 141) (hc : 440 ≤ c) (e : am_tx.getD j [] = jn t) (l : (jn t).length < 2048) : STK (c, s, hp (KLW A) B) (16777216 * (4 + 2 * j) + 19) (jn t) := by
  have := str_hp (c := c) (s := s) (B := B) (G j hj) (klw_low h) (by omega)
  rw [e] at this
  exact ⟨this, l⟩
theorem kar_0 {A B : Nat → Nat → Value} {c s j : Nat} : am_g (c, s, hp (KLW A) B) 7281313388 j = KF0 j := rfl
theorem ktxa_0 {A B W : Nat → Nat → Value} {c s : Nat} (G : GS W) (h : LOW A W) (hc : 440 ≤ c) : TXA (c, s, hp (KLW A) B) 7281313388 0 (KTF 0) := by
  show TXA _ _ 0 [KT0_0, KT0_1, KT0_2, KT0_3, KT0_4, KT0_5, KT0_6, KT0_7, KT0_8, KT0_9, KT0_10, KT0_11, KT0_12, KT0_13, KT0_14, KT0_15, KT0_16, KT0_17, KT0_18, KT0_19, KT0_20, KT0_21, KT0_22, KT0_23, KT0_24]
  refine ⟨⟨2717909011, kar_0, kstk (j := 79) G h (by decide) hc (by decide +kernel) (by decide +kernel)⟩, ⟨2751463443, kar_0, kstk (j := 80) G h (by decide) hc (by decide +kernel) (by decide +kernel)⟩, ⟨2785017875, kar_0, kstk (j := 81) G h (by decide) hc (by decide +kernel) (by decide +kernel)⟩, ⟨2818572307, kar_0, kstk (j := 82) G h (by decide) hc (by decide +kernel) (by decide +kernel)⟩, ⟨2852126739, kar_0, kstk (j := 83) G h (by decide) hc (by decide +kernel) (by decide +kernel)⟩, ⟨2885681171, kar_0, kstk (j := 84) G h (by decide) hc (by decide +kernel) (by decide +kernel)⟩, ⟨2919235603, kar_0, kstk (j := 85) G h (by decide) hc (by decide +kernel) (by decide +kernel)⟩, ⟨2952790035, kar_0, kstk (j := 86) G h (by decide) hc (by decide +kernel) (by decide +kernel)⟩, ⟨2986344467, kar_0, kstk (j := 87) G h (by decide) hc (by decide +kernel) (by decide +kernel)⟩, ⟨3019898899, kar_0, kstk (j := 88) G h (by decide) hc (by decide +kernel) (by decide +kernel)⟩, ⟨3053453331, kar_0, kstk (j := 89) G h (by decide) hc (by decide +kernel) (by decide +kernel)⟩, ⟨3087007763, kar_0, kstk (j := 90) G h (by decide) hc (by decide +kernel) (by decide +kernel)⟩, ⟨3120562195, kar_0, kstk (j := 91) G h (by decide) hc (by decide +kernel) (by decide +kernel)⟩, ⟨3154116627, kar_0, kstk (j := 92) G h (by decide) hc (by decide +kernel) (by decide +kernel)⟩, ⟨3187671059, kar_0, kstk (j := 93) G h (by decide) hc (by decide +kernel) (by decide +kernel)⟩, ⟨3221225491, kar_0, kstk (j := 94) G h (by decide) hc (by decide +kernel) (by decide +kernel)⟩, ⟨3254779923, kar_0, kstk (j := 95) G h (by decide) hc (by decide +kernel) (by decide +kernel)⟩, ⟨3288334355, kar_0, kstk (j := 96) G h (by decide) hc (by decide +kernel) (by decide +kernel)⟩, ⟨3321888787, kar_0, kstk (j := 97) G h (by decide) hc (by decide +kernel) (by decide +kernel)⟩, ⟨3355443219, kar_0, kstk (j := 98) G h (by decide) hc (by decide +kernel) (by decide +kernel)⟩, ⟨3388997651, kar_0, kstk (j := 99) G h (by decide) hc (by decide +kernel) (by decide +kernel)⟩, ⟨3422552083, kar_0, kstk (j := 100) G h (by decide) hc (by decide +kernel) (by decide +kernel)⟩, ⟨3456106515, kar_0, kstk (j := 101) G h (by decide) hc (by decide +kernel) (by decide +kernel)⟩, ⟨3489660947, kar_0, kstk (j := 102) G h (by decide) hc (by decide +kernel) (by decide +kernel)⟩, ⟨3523215379, kar_0, kstk (j := 103) G h (by decide) hc (by decide +kernel) (by decide +kernel)⟩, trivial⟩
theorem kar_1 {A B : Nat → Nat → Value} {c s j : Nat} : am_g (c, s, hp (KLW A) B) 7298090668 j = KF1 j := rfl
theorem ktxa_1 {A B W : Nat → Nat → Value} {c s : Nat} (G : GS W) (h : LOW A W) (hc : 440 ≤ c) : TXA (c, s, hp (KLW A) B) 7298090668 0 (KTF 1) := by
  show TXA _ _ 0 [KT1_0, KT1_1, KT1_2, KT1_3, KT1_4, KT1_5, KT1_6, KT1_7, KT1_8, KT1_9, KT1_10, KT1_11, KT1_12, KT1_13, KT1_14, KT1_15, KT1_16, KT1_17, KT1_18, KT1_19, KT1_20, KT1_21, KT1_22, KT1_23, KT1_24, KT1_25]
  refine ⟨⟨3556769811, kar_1, kstk (j := 104) G h (by decide) hc (by decide +kernel) (by decide +kernel)⟩, ⟨3590324243, kar_1, kstk (j := 105) G h (by decide) hc (by decide +kernel) (by decide +kernel)⟩, ⟨3623878675, kar_1, kstk (j := 106) G h (by decide) hc (by decide +kernel) (by decide +kernel)⟩, ⟨3657433107, kar_1, kstk (j := 107) G h (by decide) hc (by decide +kernel) (by decide +kernel)⟩, ⟨3690987539, kar_1, kstk (j := 108) G h (by decide) hc (by decide +kernel) (by decide +kernel)⟩, ⟨3724541971, kar_1, kstk (j := 109) G h (by decide) hc (by decide +kernel) (by decide +kernel)⟩, ⟨3758096403, kar_1, kstk (j := 110) G h (by decide) hc (by decide +kernel) (by decide +kernel)⟩, ⟨3791650835, kar_1, kstk (j := 111) G h (by decide) hc (by decide +kernel) (by decide +kernel)⟩, ⟨3825205267, kar_1, kstk (j := 112) G h (by decide) hc (by decide +kernel) (by decide +kernel)⟩, ⟨3858759699, kar_1, kstk (j := 113) G h (by decide) hc (by decide +kernel) (by decide +kernel)⟩, ⟨3892314131, kar_1, kstk (j := 114) G h (by decide) hc (by decide +kernel) (by decide +kernel)⟩, ⟨3925868563, kar_1, kstk (j := 115) G h (by decide) hc (by decide +kernel) (by decide +kernel)⟩, ⟨3959422995, kar_1, kstk (j := 116) G h (by decide) hc (by decide +kernel) (by decide +kernel)⟩, ⟨3992977427, kar_1, kstk (j := 117) G h (by decide) hc (by decide +kernel) (by decide +kernel)⟩, ⟨4026531859, kar_1, kstk (j := 118) G h (by decide) hc (by decide +kernel) (by decide +kernel)⟩, ⟨4060086291, kar_1, kstk (j := 119) G h (by decide) hc (by decide +kernel) (by decide +kernel)⟩, ⟨4093640723, kar_1, kstk (j := 120) G h (by decide) hc (by decide +kernel) (by decide +kernel)⟩, ⟨4127195155, kar_1, kstk (j := 121) G h (by decide) hc (by decide +kernel) (by decide +kernel)⟩, ⟨4160749587, kar_1, kstk (j := 122) G h (by decide) hc (by decide +kernel) (by decide +kernel)⟩, ⟨4194304019, kar_1, kstk (j := 123) G h (by decide) hc (by decide +kernel) (by decide +kernel)⟩, ⟨4227858451, kar_1, kstk (j := 124) G h (by decide) hc (by decide +kernel) (by decide +kernel)⟩, ⟨4261412883, kar_1, kstk (j := 125) G h (by decide) hc (by decide +kernel) (by decide +kernel)⟩, ⟨4294967315, kar_1, kstk (j := 126) G h (by decide) hc (by decide +kernel) (by decide +kernel)⟩, ⟨4328521747, kar_1, kstk (j := 127) G h (by decide) hc (by decide +kernel) (by decide +kernel)⟩, ⟨4362076179, kar_1, kstk (j := 128) G h (by decide) hc (by decide +kernel) (by decide +kernel)⟩, ⟨4395630611, kar_1, kstk (j := 129) G h (by decide) hc (by decide +kernel) (by decide +kernel)⟩, trivial⟩
theorem kar_2 {A B : Nat → Nat → Value} {c s j : Nat} : am_g (c, s, hp (KLW A) B) 7314866860 j = KF2 j := rfl
theorem ktxa_2 {A B W : Nat → Nat → Value} {c s : Nat} (G : GS W) (h : LOW A W) (hc : 440 ≤ c) : TXA (c, s, hp (KLW A) B) 7314866860 0 (KTF 2) := by
  show TXA _ _ 0 [KT2_0, KT2_1, KT2_2, KT2_3, KT2_4, KT2_5, KT2_6, KT2_7, KT2_8, KT2_9]
  refine ⟨⟨4429185043, kar_2, kstk (j := 130) G h (by decide) hc (by decide +kernel) (by decide +kernel)⟩, ⟨4462739475, kar_2, kstk (j := 131) G h (by decide) hc (by decide +kernel) (by decide +kernel)⟩, ⟨4496293907, kar_2, kstk (j := 132) G h (by decide) hc (by decide +kernel) (by decide +kernel)⟩, ⟨4529848339, kar_2, kstk (j := 133) G h (by decide) hc (by decide +kernel) (by decide +kernel)⟩, ⟨4563402771, kar_2, kstk (j := 134) G h (by decide) hc (by decide +kernel) (by decide +kernel)⟩, ⟨4596957203, kar_2, kstk (j := 135) G h (by decide) hc (by decide +kernel) (by decide +kernel)⟩, ⟨4630511635, kar_2, kstk (j := 136) G h (by decide) hc (by decide +kernel) (by decide +kernel)⟩, ⟨4664066067, kar_2, kstk (j := 137) G h (by decide) hc (by decide +kernel) (by decide +kernel)⟩, ⟨4697620499, kar_2, kstk (j := 138) G h (by decide) hc (by decide +kernel) (by decide +kernel)⟩, ⟨4731174931, kar_2, kstk (j := 139) G h (by decide) hc (by decide +kernel) (by decide +kernel)⟩, trivial⟩
theorem cc_0 : rCC KTF true = 3544 := by decide +kernel
theorem cc_1 : rCC KTF false = 3424 := by decide +kernel
theorem k_h0 {A B : Nat → Nat → Value} {s : Nat} (z6 : A 7264534539 6 = .int 0) (z7 : A 7264534539 7 = .int 0) (z8 : A 7264534539 8 = .int 0) : (440, s + 2301, hp (KLW A) B) = (HA (hp (KLW A) B) 440 (s + 2301) 0 0 0 kb0 (fun _ => .null) (fun _ => 0)) := by
  have kf : ∀ j, ((up (up (up (fun _ => .int 0) 8 (.int (sb (-45)))) 9 (.int (sb 1))) 10 (.int (sb (-55)))) : Nat → Value) j = .int (kb0 j) := fun j => by
    unfold kb0 up
    split
    · rfl
    · split
      · rfl
      · split <;> rfl
  apply HA_of
  · rfl
  · rfl
  · rfl
  · exact z6
  · exact z7
  · exact z8
  · exact kf
  · intro j; rfl
  · intro j; rfl
theorem k_ctor {A B W : Nat → Nat → Value} {s d : Nat} (G : GS W) (lo : LOW A W) (z6 : A 7264534539 6 = .int 0) (z7 : A 7264534539 7 = .int 0) (z8 : A 7264534539 8 = .int 0) : ∃ C s', am_M (d + 12) 199 [.ref 7264534539] (434, s, hp (wb A) B) = some (none, (7408, s', C)) ∧ (∀ x k, am_i x < 434 → x ≠ 7264534539 → C x k = hp A B x k) ∧ C 7264534539 3 = .ref 7331774505 ∧ (∀ k, C 7331774505 k = .int (KBF k)) ∧ C 7264534539 0 = .ref 7281313388 ∧ C 7264534539 1 = .ref 7298090668 ∧ s' = s + 2301 + rSS KTF true + rSS KTF false := by
  have e0 := k_h0 (B := B) (s := s) z6 z7 z8
  have T0 := ktxa_0 (B := B) (c := 440) (s := s + 2301) G lo (by decide)
  have T1 := ktxa_1 (B := B) (c := 440) (s := s + 2301) G lo (by decide)
  have T2 := ktxa_2 (B := B) (c := 440) (s := s + 2301) G lo (by decide)
  have r0 : am_g (440, s + 2301, hp (KLW A) B) 7264534539 0 = .ref 7281313388 := rfl
  have r1 : am_g (440, s + 2301, hp (KLW A) B) 7264534539 1 = .ref 7298090668 := rfl
  have r2 : am_g (440, s + 2301, hp (KLW A) B) 7264534539 2 = .ref 7314866860 := rfl
  have C1 := k_c1 (A := A) (B := B) (s := s) (d := d)
  have C1 : am_G (d + 11) 199 0 [some (.ref 7264534539), none, none] [] (434, s, hp (wb A) B) = am_G (d + 11) 199 433 [some (.ref 7264534539), some (.int 0), none] [] (440, s + 2301, hp (KLW A) B) := C1
  rw [e0] at T0 T1 T2 r0 r1 r2 C1
  have N0 : NAM (HA (hp (KLW A) B) 440 (s + 2301) 0 0 0 kb0 (fun _ => .null) (fun _ => 0)) [] (fun _ => .null) (fun _ => 0) := fun j hj => absurd hj (Nat.not_lt_zero _)
  obtain ⟨g1, nm1, pc1, I, I2, I3⟩ := k_turn0 (N := []) (l2 := none) (d := d) (T := KTF) kto N0 T0 T1 T2 r0 r1 r2 (by rw [n_t0, l_NL]; decide) (by rw [l_t0]; decide) (Nat.le_refl _)
  rw [n_t0, l_t0, cc_0] at I I2 I3
  have I : am_G (d + 11) 199 433 [some (.ref 7264534539), some (.int 0), none] [] (HA (hp (KLW A) B) 440 (s + 2301) 0 0 0 kb0 (fun _ => .null) (fun _ => 0)) = _ := I
  have lk : am_i 7264534539 < 440 := by decide
  have l0 : am_i 7281313388 < 440 := by decide
  have l1 : am_i 7298090668 < 440 := by decide
  have l2 : am_i 7314866860 < 440 := by decide
  have le : 440 ≤ 440 + 3544 := by decide
  obtain ⟨g2, nm2, pc2, J, J2, J3⟩ := k_turn1 (N := NLIT) (l2 := some (.int (Int32.ofNat 10))) (d := d) (T := KTF) kto I2
    (TXA_m le I3 l0 (by decide) (by decide) (by decide) (by decide) _ _ T0) (TXA_m le I3 l1 (by decide) (by decide) (by decide) (by decide) _ _ T1) (TXA_m le I3 l2 (by decide) (by decide) (by decide) (by decide) _ _ T2)
    ((I3 7264534539 0 lk (fun _ => by decide) (by decide) (by decide) (by decide)).trans r0) ((I3 7264534539 1 lk (fun _ => by decide) (by decide) (by decide) (by decide)).trans r1) ((I3 7264534539 2 lk (fun _ => by decide) (by decide) (by decide) (by decide)).trans r2)
    (by rw [n_t1, l_NL]; decide) (by have := congrArg List.length e_E; rw [List.length_map, List.length_map, List.length_range] at this; rw [this]; decide) (by decide)
  rw [cc_1] at J J2 J3
  have F3 := FRM_t I3 le J3
  refine ⟨(HA g2 (440 + 3544 + 3424) (s + 2301 + rSS KTF true + rSS KTF false) (rC KTF false NLIT).1.length (256 + (rE KTF false NLIT).length) (if false = true then 1 else 0) KBF nm2 pc2).2.2, s + 2301 + rSS KTF true + rSS KTF false, ?_, fun x k hx hk => ?_, rfl, fun k => rfl, ?_, ?_, rfl⟩
  · rw [e199, C1, I, J, z199_433]
    simp (disch := (refine id ?_; first | with_reducible assumption | exact Nat.ne_of_beq_eq_false rfl | with_unfolding_all exact rfl | with_unfolding_all exact Nat.le_of_ble_eq_true rfl | (simp only [am_cat_nil, am_cat_int, am_cat_ref, am_cat_null, am_cat_long, Nat.reduceAdd, Nat.reduceLeDiff]; done) | omega | exact i_bnd2 (by simp only [am_n, Nat.reduceDiv, Nat.reduceMod, Nat.reduceMul, Nat.reduceAdd]; omega) | decide | fail)) only [z199_432, z199_434, z199_435, z199_438, z199_439, z199_442, z199_445, z199_446, z199_447, z199_450, z199_451, z199_454, z199_455, z199_458, z199_459, z199_553, HA_r0, HA_r1, HA_r2, HA_r3, HA_r4, HA_r5, HA_a0, HA_a1, HA_a2, HA_w3, HA_w4, HA_w5, HA_b0, HA_b1, HA_b2, Int32.reduceLE, i_eqll, Int32.reduceAdd, ↓am_kc_f, am_kc_s, ↓reduceIte, i_10, i_00, i_eqll, i_lell, Nat.reduceEqDiff, Nat.reduceLeDiff, am_then_some, am_tl1, am_tl0, List.nil_append, Nat.reduceAdd, ad2]
    rfl
  · have n3 : ∀ y, 434 ≤ am_i y → x ≠ y := fun y hy e => by subst e; omega
    have := F3 x k (by show am_i x < 440; omega) (fun e => absurd e hk) (n3 _ (by decide)) (n3 _ (by decide)) (n3 _ (by decide))
    refine this.trans ?_
    change am_g (HA (hp (KLW A) B) 440 (s + 2301) 0 0 0 kb0 (fun _ => .null) (fun _ => 0)) x k = _
    rw [← e0]
    show (if x < 124872818688 then (if x = 7365204008 then _ else if x = 7348426796 then _ else if x = 7331774505 then _ else if x = 7314866860 then _ else if x = 7298090668 then _ else if x = 7281313388 then _ else if x = 7264534539 then _ else A x) else B x) k = (if x < 124872818688 then A x else B x) k
    rw [if_neg (n3 _ (by decide)), if_neg (n3 _ (by decide)), if_neg (n3 _ (by decide)), if_neg (n3 _ (by decide)), if_neg (n3 _ (by decide)), if_neg (n3 _ (by decide)), if_neg hk]
  · exact (F3 7264534539 0 lk (fun _ => by decide) (by decide) (by decide) (by decide)).trans r0
  · exact (F3 7264534539 1 lk (fun _ => by decide) (by decide) (by decide) (by decide)).trans r1
